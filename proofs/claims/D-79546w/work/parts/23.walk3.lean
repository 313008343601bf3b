/-! WALKS: X0_begins X0_all J9_init_2 J10_init X9_init X0_want X10_init_2 X10_init X0_allow X2_gives X3_puts X0_doCart X0_changed X0_notDone X0_cart X0_doCat X0_cat X3_clear X5_clear X6_clear -/
set_option maxRecDepth 100000
def tw_X0_begins (Q : aH → Prop) (G : aH) (a0 : Nat) : Prop :=
  th_o G a0 0 ∧ (
  th_o G a0 0 ∧ (
  th_o G (a_mr G a0 1) 1 ∧ (
  (tw_X1_like
    (fun (G1 : aH) =>
      Q G1)
    G (a_mr G a0 1) (a_mr G a0 0)))))
theorem tk_X0_begins {l : Launch} {D : tD} {B : Nat} {Q : aH → Prop} {a0 : Nat} : Met l yX0_begins (ws_ yX0_begins cX0_begins 1 ((Option.none : Option Jvm.ClassFile.FieldType))) rm_X0_begins (th_P D B [rv a0] (fun G => tw_X0_begins Q G a0)) (th_Qv D B Q) 0 0 (th_A B) :=
  th_ofW (by decide +kernel) (th_cr th_cn) (Nat.le_of_ble_eq_true rfl) (fun p e s m args below meth c CF hret hlk hnm hK hSt G ls hR hS hw hL => by
    have E : th_E p m c cX0_begins 1 s args RX0 meth ((Option.none : Option Jvm.ClassFile.FieldType)) "begins" D B := ⟨CF, hret, hlk, hnm, hK, hSt⟩
    have hx := CF.1; have hb := CF.2.1
    have hL : th_L ls 1 [(0, rv a0)] := hL
    unfold tw_X0_begins at hw
    refine th_aload_n hx hb dX0_begins_0 rfl (lv_at hL.1 0 rfl) ?_
    obtain ⟨ho, hw⟩ := hw
    refine fg_X0_26 CF hK hR ho dX0_begins_1 ?_
    refine th_aload_n hx hb dX0_begins_4 rfl (lv_at hL.1 0 rfl) ?_
    obtain ⟨ho, hw⟩ := hw
    refine fg_X0_22 CF hK hR ho dX0_begins_5 ?_
    obtain ⟨ho, hw⟩ := hw
    refine th_kv hS (th_rV CF hK hSt hR hS ho (ci := 1) rfl (rest := []) (tk_X1_like) (cw_X0_59 CF hK (by decide +kernel)) hw rfl hL.1.1 rfl th_cn (Nat.le_of_ble_eq_true rfl) dX0_begins_8 ⟨by show _ ≤ (0 : Nat); omega, by show _ ≤ (0 : Nat); omega⟩) (fun G1 H locs hw hR hS => ?_)
    exact th_vret hx hb hret hlk hR hS hw (by omega) (by omega) dX0_begins_11)
def tw_X0_all_b7 (Q : Int32 → aH → Prop) : Nat → aH → Nat → Int32 → Int32 → Prop := fun n => Nat.rec (motive := fun _ => aH → Nat → Int32 → Int32 → Prop) (fun _ _ _ _ => False) (fun _ ih G a1 x2 x3 =>
  (x2 ≤ x3 →
    Q 1 G) ∧
  (¬ x2 ≤ x3 →
    th_ai G a1 2 x3 ∧ (
    ∀ x4_2 : Int32, x4_2 = a_mi G a1 x3.toNatClampNeg → 
    (¬ x4_2 = 0 →
      ∀ x3_3 : Int32, x3_3 = x3 + 1 → 
      ih G a1 x2 x3_3) ∧
    (x4_2 = 0 →
      Q 0 G)))) n
theorem tws_X0_all_b7 (Q : Int32 → aH → Prop) (n : Nat) (G : aH) (a1 : Nat) (x2 : Int32) (x3 : Int32) : tw_X0_all_b7 Q (n + 1) G a1 x2 x3 = (
  (x2 ≤ x3 →
    Q 1 G) ∧
  (¬ x2 ≤ x3 →
    th_ai G a1 2 x3 ∧ (
    ∀ x4_2 : Int32, x4_2 = a_mi G a1 x3.toNatClampNeg → 
    (¬ x4_2 = 0 →
      ∀ x3_3 : Int32, x3_3 = x3 + 1 → 
      tw_X0_all_b7 Q n G a1 x2 x3_3) ∧
    (x4_2 = 0 →
      Q 0 G)))) := rfl
def tw_X0_all (Q : Int32 → aH → Prop) (G : aH) (a0 : Nat) : Prop :=
  th_a G a0 2 ∧ (
  ∀ x2_1 : Int32, x2_1 = th_len G a0 → 
  ∃ n9 : Nat, tw_X0_all_b7 Q n9 G a0 x2_1 0)
theorem tk_X0_all_b7 {p : Program} {l : Launch} {e : Env} {s : State} {m : MethodId} {args : Array Value} {below : List Frame} {meth : Method} {c : Code} {D : tD} {B : Nat} (E : th_E p m c cX0_all 5 s args RX0 meth ((Option.some Jvm.ClassFile.FieldType.boolean)) "all" D B) {Q : Int32 → aH → Prop} : ∀ (n : Nat) {G : aH} {H : Heap} {locs : List Loc} {cells slots : Nat} {ls : Array Slot} {a1 : Nat} {x2 : Int32} {x3 : Int32} (hR : th_H D B G H) (hS : va_S (th_A B) s.heap H locs) (hL : th_L ls 5 [(1, rv a1), (2, .int x2), (3, .int x3)]) (hw : tw_X0_all_b7 Q n G a1 x2 x3) (hc : cells + (0) ≤ 0 ∧ slots + (0) ≤ 0), W p l e rm_X0_all s m args below meth c H locs cells slots (MQ below (th_Qi D B Q) args s 0 0 (th_A B)) (F0 m 7 ls []) := by
  have CF := E.1; have hx := CF.1; have hb := CF.2.1; have hret := E.2.1; have hlk := E.2.2.1; have hnm := E.2.2.2.1; have hK := E.2.2.2.2.1; have hSt := E.2.2.2.2.2
  intro n
  induction n with
  | zero => intro _ _ _ _ _ _ _ _ _ _ _ _ hw; exact hw.elim
  | succ n ih =>
    intro G H locs cells slots ls a1 x2 x3 hR hS hL hw hc
    rw [tws_X0_all_b7] at hw
    refine lv_iload_n hx hb dX0_all_7 rfl (lv_at hL.1 2 rfl) ?_
    refine lv_iload_n hx hb dX0_all_8 rfl (lv_at hL.1 1 rfl) ?_
    refine lv_icmp_ge hx hb dX0_all_9 (tgt := 30) (by decide) (fun h => ?_) (fun h => ?_)
    · replace hw := hw.1 h
      refine lv_iconst hx hb dX0_all_30 (v := 1) rfl ?_
      exact th_zret .boolean hx hb hret rfl hlk hR hS hw (by omega) (by omega) dX0_all_31
    · replace hw := hw.2 h
      refine th_aload_n hx hb dX0_all_12 rfl (lv_at hL.1 0 rfl) ?_
      refine lv_iload_n hx hb dX0_all_13 rfl (lv_at hL.1 2 rfl) ?_
      obtain ⟨ha, hw⟩ := hw
      refine th_zald hx hb hK hR ha dX0_all_14 ?_
      obtain ⟨x4_2, hx4_2⟩ : ∃ y : Int32, y = a_mi G a1 x3.toNatClampNeg := ⟨_, rfl⟩
      replace hw := hw x4_2 hx4_2
      refine th_nmi hx4_2 ?_
      refine th_istore hx hb dX0_all_15 hL (by decide) rfl (fun ls hL => ?_)
      refine lv_iload hx hb dX0_all_17 (lv_at hL.1 0 rfl) ?_
      refine lv_if_ne hx hb dX0_all_19 (tgt := 24) (by decide) (fun h => ?_) (fun h => ?_)
      · replace hw := hw.1 h
        obtain ⟨x3_3, hx3_3⟩ : ∃ y : Int32, y = x3 + 1 := ⟨_, rfl⟩
        replace hw := hw x3_3 hx3_3
        refine th_iinc hx hb dX0_all_24 hL (k := 3) rfl (v := x3_3) hx3_3.symm (by decide) rfl (fun ls hL => ?_)
        refine lv_goto hx hb dX0_all_27 (tgt := 7) (by decide) ?_
        exact ih hR hS (hL.sub [2, 3, 0] rfl) hw ⟨by omega, by omega⟩
      · replace hw := hw.2 h
        refine lv_iconst hx hb dX0_all_22 (v := 0) rfl ?_
        exact th_zret .boolean hx hb hret rfl hlk hR hS hw (by omega) (by omega) dX0_all_23
theorem tk_X0_all {l : Launch} {D : tD} {B : Nat} {Q : Int32 → aH → Prop} {a0 : Nat} : Met l yX0_all (ws_ yX0_all cX0_all 5 ((Option.some Jvm.ClassFile.FieldType.boolean))) rm_X0_all (th_P D B [rv a0] (fun G => tw_X0_all Q G a0)) (th_Qi D B Q) 0 0 (th_A B) :=
  th_ofW (by decide +kernel) (th_cr th_cn) (Nat.le_of_ble_eq_true rfl) (fun p e s m args below meth c CF hret hlk hnm hK hSt G ls hR hS hw hL => by
    have E : th_E p m c cX0_all 5 s args RX0 meth ((Option.some Jvm.ClassFile.FieldType.boolean)) "all" D B := ⟨CF, hret, hlk, hnm, hK, hSt⟩
    have hx := CF.1; have hb := CF.2.1
    have hL : th_L ls 5 [(0, rv a0)] := hL
    unfold tw_X0_all at hw
    refine th_aload_n hx hb dX0_all_0 rfl (lv_at hL.1 0 rfl) ?_
    refine th_astore_n hx hb dX0_all_1 rfl hL (by decide) rfl (fun ls hL => ?_)
    refine th_aload_n hx hb dX0_all_2 rfl (lv_at hL.1 0 rfl) ?_
    obtain ⟨ha, hw⟩ := hw
    refine th_alen hx hb hK 2 (by decide) hR ha dX0_all_3 ?_
    obtain ⟨x2_1, hx2_1⟩ : ∃ y : Int32, y = th_len G a0 := ⟨_, rfl⟩
    replace hw := hw x2_1 hx2_1
    refine th_nmi hx2_1 ?_
    refine th_istore_n hx hb dX0_all_4 rfl hL (by decide) rfl (fun ls hL => ?_)
    refine lv_iconst hx hb dX0_all_5 (v := 0) rfl ?_
    refine th_istore_n hx hb dX0_all_6 rfl hL (by decide) rfl (fun ls hL => ?_)
    obtain ⟨n9, hw⟩ := hw
    exact tk_X0_all_b7 E n9 hR hS (hL.sub [2, 1, 0] rfl) hw ⟨by omega, by omega⟩)
def tw_J9_init_2 (Q : aH → Prop) (G : aH) (a0 : Nat) (a1 : Nat) (a2 : Nat) (x3 : Int32) (x4 : Int32) : Prop :=
  (a_sh G a0).1 ≠ 0 ∧ (
  th_oo G a0 [9, 10, 11] ∧ (
  ∀ G1 : aH, G1 = a_sr G a0 0 a0 → 
  ∀ v2 : Value, th_nr v2 → 
  th_oo G1 a0 [9, 10, 11] ∧ (
  ∀ v3 : Value, th_nr v3 → 
  th_oo G1 a0 [9, 10, 11] ∧ (
  (x4 = 0 →
    th_oo G1 a0 [9, 10, 11] ∧ (
    th_oo G1 a0 [9, 10, 11] ∧ (
    th_oo G1 a0 [9, 10, 11] ∧ (
    ∀ G4 : aH, G4 = a_sr G1 a0 0 a2 → 
    (¬ x3 = 0 →
      Q G4) ∧
    (x3 = 0 →
      th_oo G4 a0 [9, 10, 11] ∧ (
      Q G4)))))) ∧
  (¬ x4 = 0 →
    False)))))
theorem tk_J9_init_2 {l : Launch} {D : tD} {B : Nat} {Q : aH → Prop} {a0 : Nat} {a1 : Nat} {a2 : Nat} {x3 : Int32} {x4 : Int32} : Met l yJ9_init_2 (ws_ yJ9_init_2 cJ9_init_2 5 ((Option.none : Option Jvm.ClassFile.FieldType))) rm_J9_init_2 (th_P D B [rv a0, rv a1, rv a2, .int x3, .int x4] (fun G => tw_J9_init_2 Q G a0 a1 a2 x3 x4)) (th_Qv D B Q) 0 0 (th_A B) :=
  th_ofW (by decide +kernel) (th_cr (th_cr (th_cr (th_ci (th_ci th_cn))))) (Nat.le_of_ble_eq_true rfl) (fun p e s m args below meth c CF hret hlk hnm hK hSt G ls hR hS hw hL => by
    have E : th_E p m c cJ9_init_2 5 s args RJ9 meth ((Option.none : Option Jvm.ClassFile.FieldType)) "<init>" D B := ⟨CF, hret, hlk, hnm, hK, hSt⟩
    have hx := CF.1; have hb := CF.2.1
    have hL : th_L ls 5 [(0, rv a0), (1, rv a1), (2, rv a2), (3, .int x3), (4, .int x4)] := hL
    unfold tw_J9_init_2 at hw
    refine th_aload_n hx hb dJ9_init_2_0 rfl (lv_at hL.1 0 rfl) ?_
    obtain ⟨h0, hw⟩ := hw
    refine th_objInit hx hb CF.2.2.2.1 (CF.2.2.2.2 _ q538) (CF.2.2.2.2 _ q148) (CF.2.2.2.2 _ q149) (hL.1.1.trans CF.2.2.1.symm) hR h0 th_cn (Nat.le_of_ble_eq_true rfl) (by decide) (by decide) dJ9_init_2_1 ?_
    refine th_aload_n hx hb dJ9_init_2_4 rfl (lv_at hL.1 0 rfl) ?_
    refine th_aload_n hx hb dJ9_init_2_5 rfl (lv_at hL.1 0 rfl) ?_
    obtain ⟨ho, hw⟩ := hw
    refine fp_J9_7 CF hK hR hS ho dJ9_init_2_6 (fun G1 H locs hG hR hS => ?_)
    replace hw := hw G1 hG
    refine th_aload_n hx hb dJ9_init_2_9 rfl (lv_at hL.1 0 rfl) ?_
    refine th_getsq hx hb hSt.2.1 hS CF.2.2.2.1 (CF.2.2.2.2 _ q539) (fun _ h => h) dJ9_init_2_10 (fun v2 hv2 => ?_)
    replace hw := hw v2 hv2
    obtain ⟨ho, hw⟩ := hw
    refine fp_J9_17 CF hK hR hS hv2 ho dJ9_init_2_13 (fun H locs hR hS => ?_)
    refine th_aload_n hx hb dJ9_init_2_16 rfl (lv_at hL.1 0 rfl) ?_
    refine th_getsq hx hb hSt.2.2.1 hS CF.2.2.2.1 (CF.2.2.2.2 _ q541) (fun _ h => h) dJ9_init_2_17 (fun v3 hv3 => ?_)
    replace hw := hw v3 hv3
    obtain ⟨ho, hw⟩ := hw
    refine fp_J9_24 CF hK hR hS hv3 ho dJ9_init_2_20 (fun H locs hR hS => ?_)
    refine lv_iload hx hb dJ9_init_2_23 (lv_at hL.1 4 rfl) ?_
    refine lv_if_eq hx hb dJ9_init_2_25 (tgt := 36) (by decide) (fun h => ?_) (fun h => ?_)
    · replace hw := hw.1 h
      refine th_aload_n hx hb dJ9_init_2_36 rfl (lv_at hL.1 0 rfl) ?_
      refine th_null hx hb dJ9_init_2_37 ?_
      obtain ⟨ho, hw⟩ := hw
      refine fp_J9_17 CF hK hR hS (th_nrv _) ho dJ9_init_2_38 (fun H locs hR hS => ?_)
      refine th_aload_n hx hb dJ9_init_2_41 rfl (lv_at hL.1 0 rfl) ?_
      refine th_aload_n hx hb dJ9_init_2_42 rfl (lv_at hL.1 1 rfl) ?_
      obtain ⟨ho, hw⟩ := hw
      refine fp_J9_31 CF hK hR hS (th_nrv _) ho dJ9_init_2_43 (fun H locs hR hS => ?_)
      refine th_aload_n hx hb dJ9_init_2_46 rfl (lv_at hL.1 0 rfl) ?_
      refine th_aload_n hx hb dJ9_init_2_47 rfl (lv_at hL.1 2 rfl) ?_
      obtain ⟨ho, hw⟩ := hw
      refine fp_J9_7 CF hK hR hS ho dJ9_init_2_48 (fun G4 H locs hG hR hS => ?_)
      replace hw := hw G4 hG
      refine lv_iload_n hx hb dJ9_init_2_51 rfl (lv_at hL.1 3 rfl) ?_
      refine lv_if_ne hx hb dJ9_init_2_52 (tgt := 60) (by decide) (fun h => ?_) (fun h => ?_)
      · replace hw := hw.1 h
        exact th_vret hx hb hret hlk hR hS hw (by omega) (by omega) dJ9_init_2_60
      · replace hw := hw.2 h
        refine th_aload_n hx hb dJ9_init_2_55 rfl (lv_at hL.1 0 rfl) ?_
        refine th_null hx hb dJ9_init_2_56 ?_
        obtain ⟨ho, hw⟩ := hw
        refine fp_J9_24 CF hK hR hS (th_nrv _) ho dJ9_init_2_57 (fun H locs hR hS => ?_)
        exact th_vret hx hb hret hlk hR hS hw (by omega) (by omega) dJ9_init_2_60
    · replace hw := hw.2 h
      exact hw.elim)
def tw_J10_init (Q : aH → Prop) (G : aH) (a0 : Nat) (a1 : Nat) (a2 : Nat) (x3 : Int32) (x4 : Int32) : Prop :=
  (a_sh G a0).1 ≠ 0 ∧ (
  (tw_J9_init_2
    (fun (G1 : aH) =>
      Q G1)
    G a0 a1 a2 x3 x4))
theorem tk_J10_init {l : Launch} {D : tD} {B : Nat} {Q : aH → Prop} {a0 : Nat} {a1 : Nat} {a2 : Nat} {x3 : Int32} {x4 : Int32} : Met l yJ10_init (ws_ yJ10_init cJ10_init 5 ((Option.none : Option Jvm.ClassFile.FieldType))) rm_J10_init (th_P D B [rv a0, rv a1, rv a2, .int x3, .int x4] (fun G => tw_J10_init Q G a0 a1 a2 x3 x4)) (th_Qv D B Q) 0 0 (th_A B) :=
  th_ofW (by decide +kernel) (th_cr (th_cr (th_cr (th_ci (th_ci th_cn))))) (Nat.le_of_ble_eq_true rfl) (fun p e s m args below meth c CF hret hlk hnm hK hSt G ls hR hS hw hL => by
    have E : th_E p m c cJ10_init 5 s args RJ10 meth ((Option.none : Option Jvm.ClassFile.FieldType)) "<init>" D B := ⟨CF, hret, hlk, hnm, hK, hSt⟩
    have hx := CF.1; have hb := CF.2.1
    have hL : th_L ls 5 [(0, rv a0), (1, rv a1), (2, rv a2), (3, .int x3), (4, .int x4)] := hL
    unfold tw_J10_init at hw
    refine th_aload_n hx hb dJ10_init_0 rfl (lv_at hL.1 0 rfl) ?_
    refine th_aload_n hx hb dJ10_init_1 rfl (lv_at hL.1 1 rfl) ?_
    refine th_aload_n hx hb dJ10_init_2 rfl (lv_at hL.1 2 rfl) ?_
    refine lv_iload_n hx hb dJ10_init_3 rfl (lv_at hL.1 3 rfl) ?_
    refine lv_iload hx hb dJ10_init_4 (lv_at hL.1 4 rfl) ?_
    obtain ⟨h0, hw⟩ := hw
    refine th_kv hS (th_rI CF hK hSt hR hS h0 (rest := []) (tk_J9_init_2) (cw_J10_16 CF hK (by decide +kernel)) hw rfl hL.1.1 rfl th_cn (Nat.le_of_ble_eq_true rfl) dJ10_init_6 ⟨by show _ ≤ (0 : Nat); omega, by show _ ≤ (0 : Nat); omega⟩) (fun G1 H locs hw hR hS => ?_)
    exact th_vret hx hb hret hlk hR hS hw (by omega) (by omega) dJ10_init_9)
def tw_X9_init (Q : aH → Prop) (G : aH) (a0 : Nat) (x1 : Int32) : Prop :=
  (a_sh G a0).1 ≠ 0 ∧ (
  (tw_J10_init
    (fun (G1 : aH) =>
      th_o G1 a0 9 ∧ (
      ∀ G2 : aH, G2 = a_si G1 a0 1 x1 → 
      Q G2))
    G a0 0 0 0 0))
theorem tk_X9_init {l : Launch} {D : tD} {B : Nat} {Q : aH → Prop} {a0 : Nat} {x1 : Int32} : Met l yX9_init (ws_ yX9_init cX9_init 2 ((Option.none : Option Jvm.ClassFile.FieldType))) rm_X9_init (th_P D B [rv a0, .int x1] (fun G => tw_X9_init Q G a0 x1)) (th_Qv D B Q) 0 0 (th_A B) :=
  th_ofW (by decide +kernel) (th_cr (th_ci th_cn)) (Nat.le_of_ble_eq_true rfl) (fun p e s m args below meth c CF hret hlk hnm hK hSt G ls hR hS hw hL => by
    have E : th_E p m c cX9_init 2 s args RX9 meth ((Option.none : Option Jvm.ClassFile.FieldType)) "<init>" D B := ⟨CF, hret, hlk, hnm, hK, hSt⟩
    have hx := CF.1; have hb := CF.2.1
    have hL : th_L ls 2 [(0, rv a0), (1, .int x1)] := hL
    unfold tw_X9_init at hw
    refine th_aload_n hx hb dX9_init_0 rfl (lv_at hL.1 0 rfl) ?_
    refine th_null hx hb dX9_init_1 ?_
    refine th_null hx hb dX9_init_2 ?_
    refine lv_iconst hx hb dX9_init_3 (v := 0) rfl ?_
    refine lv_iconst hx hb dX9_init_4 (v := 0) rfl ?_
    obtain ⟨h0, hw⟩ := hw
    refine th_kv hS (th_rI CF hK hSt hR hS h0 (rest := []) (tk_J10_init) (cw_X9_1 CF hK (by decide +kernel)) hw rfl hL.1.1 rfl th_cn (Nat.le_of_ble_eq_true rfl) dX9_init_5 ⟨by show _ ≤ (0 : Nat); omega, by show _ ≤ (0 : Nat); omega⟩) (fun G1 H locs hw hR hS => ?_)
    refine th_aload_n hx hb dX9_init_8 rfl (lv_at hL.1 0 rfl) ?_
    refine lv_iload_n hx hb dX9_init_9 rfl (lv_at hL.1 1 rfl) ?_
    obtain ⟨ho, hw⟩ := hw
    refine fp_X9_7 CF hK hR hS hnm ho dX9_init_10 (fun G2 H locs hG hR hS => ?_)
    replace hw := hw G2 hG
    exact th_vret hx hb hret hlk hR hS hw (by omega) (by omega) dX9_init_13)
def tw_X0_want (Q : aH → Prop) (X : Nat → aH → Prop) (G : aH) (x0 : Int32) (x1 : Int32) : Prop :=
  (¬ x0 = 0 →
    Q G) ∧
  (x0 = 0 →
    ∀ z1 : Nat, z1 = a_sz G → ∀ G2 : aH, G2 = a_nw G (9 + 1) 0 → 
    (a_sh G2 z1).1 ≠ 0 ∧ (
    (tw_X9_init
      (fun (G3 : aH) =>
        th_oo G3 z1 [9, 10, 11] ∧ (
        X z1 G3))
      G2 z1 x1)))
theorem tk_X0_want {l : Launch} {D : tD} {B : Nat} {Q : aH → Prop} {X : Nat → aH → Prop} {x0 : Int32} {x1 : Int32} : vz_Met l yX0_want (ws_ yX0_want cX0_want 2 ((Option.none : Option Jvm.ClassFile.FieldType))) rm_X0_want (th_P D B [.int x0, .int x1] (fun G => tw_X0_want Q X G x0 x1)) (th_Qv D B Q) (th_X D B X) 1 7 (th_A B) :=
  th_ofX (by decide +kernel) (th_ci (th_ci th_cn)) (Nat.le_of_ble_eq_true rfl) (fun p e s m args below meth c CF hret hlk hnm htab0 hK hSt G ls hR hS hw hL => by
    have E : th_E p m c cX0_want 2 s args RX0 meth ((Option.none : Option Jvm.ClassFile.FieldType)) "want" D B := ⟨CF, hret, hlk, hnm, hK, hSt⟩
    have htab : c.exceptionTable.toList = tableOf [] := th_notab htab0
    have hx := CF.1; have hb := CF.2.1
    have hL : th_L ls 2 [(0, .int x0), (1, .int x1)] := hL
    unfold tw_X0_want at hw
    refine lv_iload_n hx hb dX0_want_0 rfl (lv_at hL.1 0 rfl) ?_
    refine lv_if_ne hx hb dX0_want_1 (tgt := 13) (by decide) (fun h => ?_) (fun h => ?_)
    · replace hw := hw.1 h
      exact vz_ret (th_vret hx hb hret hlk hR hS hw (by omega) (by omega) dX0_want_13)
    · replace hw := hw.2 h
      refine fn_X0_3 CF hK hR hS (by show _ ≤ (1 : Nat); omega) (by show _ ≤ (7 : Nat); omega) dX0_want_4 (fun z1 G2 H hz hG hR hS => ?_)
      replace hw := hw z1 hz G2 hG
      refine lv_dup hx hb dX0_want_7 (rv_cat _) ?_
      refine lv_iload_n hx hb dX0_want_8 rfl (lv_at hL.1 1 rfl) ?_
      obtain ⟨h0, hw⟩ := hw
      refine th_kv hS (th_rI CF hK hSt hR hS h0 (rest := [rv z1]) (tk_X9_init) (cw_X0_5 CF hK (by decide +kernel)) hw rfl hL.1.1 rfl (th_cr th_cn) (Nat.le_of_ble_eq_true rfl) dX0_want_9 ⟨by show _ ≤ (1 : Nat); omega, by show _ ≤ (7 : Nat); omega⟩) (fun G3 H locs hw hR hS => ?_)
      obtain ⟨ho, hw⟩ := hw
      refine th_athrowo hx hb hR ho dX0_want_12 ?_
      exact th_out hK hlk (by rw [htab]; decide) hR hS hw ho (by omega) (by omega))
def tw_X10_init_2 (Q : aH → Prop) (G : aH) (a0 : Nat) (x1 : Int32) (x2 : Int32) (a3 : Nat) : Prop :=
  (a_sh G a0).1 ≠ 0 ∧ (
  (tw_J10_init
    (fun (G1 : aH) =>
      th_o G1 a0 10 ∧ (
      ∀ G2 : aH, G2 = a_si G1 a0 1 x1 → 
      th_o G2 a0 10 ∧ (
      ∀ G3 : aH, G3 = a_si G2 a0 2 x2 → 
      Q G3)))
    G a0 0 a3 0 0))
theorem tk_X10_init_2 {l : Launch} {D : tD} {B : Nat} {Q : aH → Prop} {a0 : Nat} {x1 : Int32} {x2 : Int32} {a3 : Nat} : Met l yX10_init_2 (ws_ yX10_init_2 cX10_init_2 4 ((Option.none : Option Jvm.ClassFile.FieldType))) rm_X10_init_2 (th_P D B [rv a0, .int x1, .int x2, rv a3] (fun G => tw_X10_init_2 Q G a0 x1 x2 a3)) (th_Qv D B Q) 0 0 (th_A B) :=
  th_ofW (by decide +kernel) (th_cr (th_ci (th_ci (th_cr th_cn)))) (Nat.le_of_ble_eq_true rfl) (fun p e s m args below meth c CF hret hlk hnm hK hSt G ls hR hS hw hL => by
    have E : th_E p m c cX10_init_2 4 s args RX10 meth ((Option.none : Option Jvm.ClassFile.FieldType)) "<init>" D B := ⟨CF, hret, hlk, hnm, hK, hSt⟩
    have hx := CF.1; have hb := CF.2.1
    have hL : th_L ls 4 [(0, rv a0), (1, .int x1), (2, .int x2), (3, rv a3)] := hL
    unfold tw_X10_init_2 at hw
    refine th_aload_n hx hb dX10_init_2_0 rfl (lv_at hL.1 0 rfl) ?_
    refine th_null hx hb dX10_init_2_1 ?_
    refine th_aload_n hx hb dX10_init_2_2 rfl (lv_at hL.1 3 rfl) ?_
    refine lv_iconst hx hb dX10_init_2_3 (v := 0) rfl ?_
    refine lv_iconst hx hb dX10_init_2_4 (v := 0) rfl ?_
    obtain ⟨h0, hw⟩ := hw
    refine th_kv hS (th_rI CF hK hSt hR hS h0 (rest := []) (tk_J10_init) (cw_X10_7 CF hK (by decide +kernel)) hw rfl hL.1.1 rfl th_cn (Nat.le_of_ble_eq_true rfl) dX10_init_2_5 ⟨by show _ ≤ (0 : Nat); omega, by show _ ≤ (0 : Nat); omega⟩) (fun G1 H locs hw hR hS => ?_)
    refine th_aload_n hx hb dX10_init_2_8 rfl (lv_at hL.1 0 rfl) ?_
    refine lv_iload_n hx hb dX10_init_2_9 rfl (lv_at hL.1 1 rfl) ?_
    obtain ⟨ho, hw⟩ := hw
    refine fp_X10_12 CF hK hR hS hnm ho dX10_init_2_10 (fun G2 H locs hG hR hS => ?_)
    replace hw := hw G2 hG
    refine th_aload_n hx hb dX10_init_2_13 rfl (lv_at hL.1 0 rfl) ?_
    refine lv_iload_n hx hb dX10_init_2_14 rfl (lv_at hL.1 2 rfl) ?_
    obtain ⟨ho, hw⟩ := hw
    refine fp_X10_16 CF hK hR hS hnm ho dX10_init_2_15 (fun G3 H locs hG hR hS => ?_)
    replace hw := hw G3 hG
    exact th_vret hx hb hret hlk hR hS hw (by omega) (by omega) dX10_init_2_18)
def tw_X10_init (Q : aH → Prop) (G : aH) (a0 : Nat) (x1 : Int32) (x2 : Int32) : Prop :=
  (a_sh G a0).1 ≠ 0 ∧ (
  (tw_X10_init_2
    (fun (G1 : aH) =>
      Q G1)
    G a0 x1 x2 0))
theorem tk_X10_init {l : Launch} {D : tD} {B : Nat} {Q : aH → Prop} {a0 : Nat} {x1 : Int32} {x2 : Int32} : Met l yX10_init (ws_ yX10_init cX10_init 3 ((Option.none : Option Jvm.ClassFile.FieldType))) rm_X10_init (th_P D B [rv a0, .int x1, .int x2] (fun G => tw_X10_init Q G a0 x1 x2)) (th_Qv D B Q) 0 0 (th_A B) :=
  th_ofW (by decide +kernel) (th_cr (th_ci (th_ci th_cn))) (Nat.le_of_ble_eq_true rfl) (fun p e s m args below meth c CF hret hlk hnm hK hSt G ls hR hS hw hL => by
    have E : th_E p m c cX10_init 3 s args RX10 meth ((Option.none : Option Jvm.ClassFile.FieldType)) "<init>" D B := ⟨CF, hret, hlk, hnm, hK, hSt⟩
    have hx := CF.1; have hb := CF.2.1
    have hL : th_L ls 3 [(0, rv a0), (1, .int x1), (2, .int x2)] := hL
    unfold tw_X10_init at hw
    refine th_aload_n hx hb dX10_init_0 rfl (lv_at hL.1 0 rfl) ?_
    refine lv_iload_n hx hb dX10_init_1 rfl (lv_at hL.1 1 rfl) ?_
    refine lv_iload_n hx hb dX10_init_2 rfl (lv_at hL.1 2 rfl) ?_
    refine th_null hx hb dX10_init_3 ?_
    obtain ⟨h0, hw⟩ := hw
    refine th_kv hS (th_rI CF hK hSt hR hS h0 (rest := []) (tk_X10_init_2) (cw_X10_1 CF hK (by decide +kernel)) hw rfl hL.1.1 rfl th_cn (Nat.le_of_ble_eq_true rfl) dX10_init_4 ⟨by show _ ≤ (0 : Nat); omega, by show _ ≤ (0 : Nat); omega⟩) (fun G1 H locs hw hR hS => ?_)
    exact th_vret hx hb hret hlk hR hS hw (by omega) (by omega) dX10_init_7)
def tw_X0_allow (Q : aH → Prop) (X : Nat → aH → Prop) (G : aH) (x0 : Int32) (x1 : Int32) (x2 : Int32) : Prop :=
  (¬ x0 = 0 →
    Q G) ∧
  (x0 = 0 →
    ∀ z1 : Nat, z1 = a_sz G → ∀ G2 : aH, G2 = a_nw G (10 + 1) 0 → 
    (a_sh G2 z1).1 ≠ 0 ∧ (
    (tw_X10_init
      (fun (G3 : aH) =>
        th_oo G3 z1 [9, 10, 11] ∧ (
        X z1 G3))
      G2 z1 x1 x2)))
theorem tk_X0_allow {l : Launch} {D : tD} {B : Nat} {Q : aH → Prop} {X : Nat → aH → Prop} {x0 : Int32} {x1 : Int32} {x2 : Int32} : vz_Met l yX0_allow (ws_ yX0_allow cX0_allow 3 ((Option.none : Option Jvm.ClassFile.FieldType))) rm_X0_allow (th_P D B [.int x0, .int x1, .int x2] (fun G => tw_X0_allow Q X G x0 x1 x2)) (th_Qv D B Q) (th_X D B X) 1 8 (th_A B) :=
  th_ofX (by decide +kernel) (th_ci (th_ci (th_ci th_cn))) (Nat.le_of_ble_eq_true rfl) (fun p e s m args below meth c CF hret hlk hnm htab0 hK hSt G ls hR hS hw hL => by
    have E : th_E p m c cX0_allow 3 s args RX0 meth ((Option.none : Option Jvm.ClassFile.FieldType)) "allow" D B := ⟨CF, hret, hlk, hnm, hK, hSt⟩
    have htab : c.exceptionTable.toList = tableOf [] := th_notab htab0
    have hx := CF.1; have hb := CF.2.1
    have hL : th_L ls 3 [(0, .int x0), (1, .int x1), (2, .int x2)] := hL
    unfold tw_X0_allow at hw
    refine lv_iload_n hx hb dX0_allow_0 rfl (lv_at hL.1 0 rfl) ?_
    refine lv_if_ne hx hb dX0_allow_1 (tgt := 14) (by decide) (fun h => ?_) (fun h => ?_)
    · replace hw := hw.1 h
      exact vz_ret (th_vret hx hb hret hlk hR hS hw (by omega) (by omega) dX0_allow_14)
    · replace hw := hw.2 h
      refine fn_X0_9 CF hK hR hS (by show _ ≤ (1 : Nat); omega) (by show _ ≤ (8 : Nat); omega) dX0_allow_4 (fun z1 G2 H hz hG hR hS => ?_)
      replace hw := hw z1 hz G2 hG
      refine lv_dup hx hb dX0_allow_7 (rv_cat _) ?_
      refine lv_iload_n hx hb dX0_allow_8 rfl (lv_at hL.1 1 rfl) ?_
      refine lv_iload_n hx hb dX0_allow_9 rfl (lv_at hL.1 2 rfl) ?_
      obtain ⟨h0, hw⟩ := hw
      refine th_kv hS (th_rI CF hK hSt hR hS h0 (rest := [rv z1]) (tk_X10_init) (cw_X0_11 CF hK (by decide +kernel)) hw rfl hL.1.1 rfl (th_cr th_cn) (Nat.le_of_ble_eq_true rfl) dX0_allow_10 ⟨by show _ ≤ (1 : Nat); omega, by show _ ≤ (8 : Nat); omega⟩) (fun G3 H locs hw hR hS => ?_)
      obtain ⟨ho, hw⟩ := hw
      refine th_athrowo hx hb hR ho dX0_allow_13 ?_
      exact th_out hK hlk (by rw [htab]; decide) hR hS hw ho (by omega) (by omega))
def tw_X2_gives_b54 (Q : aH → Prop) (k12 : aH → Nat → Int32 → Prop) (G : aH) (a0 : Nat) (x2 : Int32) : Prop :=
  k12 G a0 x2
def tw_X2_gives_b12 (Q : aH → Prop) : Nat → aH → Nat → Int32 → Prop := fun n => Nat.rec (motive := fun _ => aH → Nat → Int32 → Prop) (fun _ _ _ => False) (fun _ ih G a0 x2 =>
  (x2 ≤ 0 →
    Q G) ∧
  (¬ x2 ≤ 0 →
    th_o G a0 2 ∧ (
    th_ai G (a_mr G a0 5) 0 0 ∧ (
    ∀ x3_2 : Int32, x3_2 = (if a_mi G (a_mr G a0 5) (0 : Int32).toNatClampNeg < x2 then a_mi G (a_mr G a0 5) (0 : Int32).toNatClampNeg else x2) → 
    th_o G a0 2 ∧ (
    th_ai G (a_mr G a0 5) 0 0 ∧ (
    th_ai G (a_mr G a0 5) 0 0 ∧ (
    ∀ G3 : aH, G3 = a_si G (a_mr G a0 5) (0 : Int32).toNatClampNeg ((a_mi G (a_mr G a0 5) (0 : Int32).toNatClampNeg) - x3_2) → 
    ∀ x2_4 : Int32, x2_4 = x2 - x3_2 → 
    th_o G3 a0 2 ∧ (
    th_ai G3 (a_mr G3 a0 5) 0 0 ∧ (
    (¬ a_mi G3 (a_mr G3 a0 5) (0 : Int32).toNatClampNeg = 0 →
      tw_X2_gives_b54 Q (ih) G3 a0 x2_4) ∧
    (a_mi G3 (a_mr G3 a0 5) (0 : Int32).toNatClampNeg = 0 →
      th_o G3 a0 2 ∧ (
      (tw_X2_dropsFirst
        (fun (G5 : aH) =>
          tw_X2_gives_b54 Q (ih) G5 a0 x2_4)
        G3 a0)))))))))))) n
theorem tws_X2_gives_b12 (Q : aH → Prop) (n : Nat) (G : aH) (a0 : Nat) (x2 : Int32) : tw_X2_gives_b12 Q (n + 1) G a0 x2 = (
  (x2 ≤ 0 →
    Q G) ∧
  (¬ x2 ≤ 0 →
    th_o G a0 2 ∧ (
    th_ai G (a_mr G a0 5) 0 0 ∧ (
    ∀ x3_2 : Int32, x3_2 = (if a_mi G (a_mr G a0 5) (0 : Int32).toNatClampNeg < x2 then a_mi G (a_mr G a0 5) (0 : Int32).toNatClampNeg else x2) → 
    th_o G a0 2 ∧ (
    th_ai G (a_mr G a0 5) 0 0 ∧ (
    th_ai G (a_mr G a0 5) 0 0 ∧ (
    ∀ G3 : aH, G3 = a_si G (a_mr G a0 5) (0 : Int32).toNatClampNeg ((a_mi G (a_mr G a0 5) (0 : Int32).toNatClampNeg) - x3_2) → 
    ∀ x2_4 : Int32, x2_4 = x2 - x3_2 → 
    th_o G3 a0 2 ∧ (
    th_ai G3 (a_mr G3 a0 5) 0 0 ∧ (
    (¬ a_mi G3 (a_mr G3 a0 5) (0 : Int32).toNatClampNeg = 0 →
      tw_X2_gives_b54 Q (tw_X2_gives_b12 Q n) G3 a0 x2_4) ∧
    (a_mi G3 (a_mr G3 a0 5) (0 : Int32).toNatClampNeg = 0 →
      th_o G3 a0 2 ∧ (
      (tw_X2_dropsFirst
        (fun (G5 : aH) =>
          tw_X2_gives_b54 Q (tw_X2_gives_b12 Q n) G5 a0 x2_4)
        G3 a0)))))))))))) := rfl
def tw_X2_gives (Q : aH → Prop) (G : aH) (a0 : Nat) (x1 : Int32) : Prop :=
  th_o G a0 2 ∧ (
  th_o G a0 2 ∧ (
  ∀ G1 : aH, G1 = a_si G a0 2 ((a_mi G a0 2) + x1) → 
  ∃ n9 : Nat, tw_X2_gives_b12 Q n9 G1 a0 x1))
theorem tk_X2_gives_b54 {p : Program} {l : Launch} {e : Env} {s : State} {m : MethodId} {args : Array Value} {below : List Frame} {meth : Method} {c : Code} {D : tD} {B : Nat} (E : th_E p m c cX2_gives 4 s args RX2 meth ((Option.none : Option Jvm.ClassFile.FieldType)) "gives" D B) {Q : aH → Prop} {k12 : aH → Nat → Int32 → Prop} {c12 s12 : Nat} (h12 : ∀ (G : aH) (H : Heap) (locs : List Loc) (cells slots : Nat) (ls : Array Slot) (y12_0 : Nat) (y12_1 : Int32), k12 G y12_0 y12_1 → th_H D B G H → va_S (th_A B) s.heap H locs → th_L ls 4 [(0, rv y12_0), (2, .int y12_1)] → cells ≤ c12 ∧ slots ≤ s12 → W p l e rm_X2_gives s m args below meth c H locs cells slots (MQ below (th_Qv D B Q) args s 0 0 (th_A B)) (F0 m 12 ls [])) {G : aH} {H : Heap} {locs : List Loc} {cells slots : Nat} {ls : Array Slot} {a0 : Nat} {x2 : Int32} (hR : th_H D B G H) (hS : va_S (th_A B) s.heap H locs) (hL : th_L ls 4 [(0, rv a0), (2, .int x2)]) (hw : tw_X2_gives_b54 Q k12 G a0 x2) (hc : cells + (0) ≤ 0 ∧ slots + (0) ≤ 0 ∧ cells + (0) ≤ c12 ∧ slots + (0) ≤ s12) : W p l e rm_X2_gives s m args below meth c H locs cells slots (MQ below (th_Qv D B Q) args s 0 0 (th_A B)) (F0 m 54 ls []) := by
  have CF := E.1; have hx := CF.1; have hb := CF.2.1; have hret := E.2.1; have hlk := E.2.2.1; have hnm := E.2.2.2.1; have hK := E.2.2.2.2.1; have hSt := E.2.2.2.2.2
  unfold tw_X2_gives_b54 at hw
  refine lv_goto hx hb dX2_gives_54 (tgt := 12) (by decide) ?_
  exact h12 _ _ _ _ _ _ _ _ hw hR hS (hL.sub [0, 1] rfl) ⟨by omega, by omega⟩
theorem tk_X2_gives_b12 {p : Program} {l : Launch} {e : Env} {s : State} {m : MethodId} {args : Array Value} {below : List Frame} {meth : Method} {c : Code} {D : tD} {B : Nat} (E : th_E p m c cX2_gives 4 s args RX2 meth ((Option.none : Option Jvm.ClassFile.FieldType)) "gives" D B) {Q : aH → Prop} : ∀ (n : Nat) {G : aH} {H : Heap} {locs : List Loc} {cells slots : Nat} {ls : Array Slot} {a0 : Nat} {x2 : Int32} (hR : th_H D B G H) (hS : va_S (th_A B) s.heap H locs) (hL : th_L ls 4 [(0, rv a0), (2, .int x2)]) (hw : tw_X2_gives_b12 Q n G a0 x2) (hc : cells + (0) ≤ 0 ∧ slots + (0) ≤ 0), W p l e rm_X2_gives s m args below meth c H locs cells slots (MQ below (th_Qv D B Q) args s 0 0 (th_A B)) (F0 m 12 ls []) := by
  have CF := E.1; have hx := CF.1; have hb := CF.2.1; have hret := E.2.1; have hlk := E.2.2.1; have hnm := E.2.2.2.1; have hK := E.2.2.2.2.1; have hSt := E.2.2.2.2.2
  intro n
  induction n with
  | zero => intro _ _ _ _ _ _ _ _ _ _ _ hw; exact hw.elim
  | succ n ih =>
    intro G H locs cells slots ls a0 x2 hR hS hL hw hc
    rw [tws_X2_gives_b12] at hw
    refine lv_iload_n hx hb dX2_gives_12 rfl (lv_at hL.1 1 rfl) ?_
    refine lv_if_le hx hb dX2_gives_13 (tgt := 57) (by decide) (fun h => ?_) (fun h => ?_)
    · replace hw := hw.1 h
      exact th_vret hx hb hret hlk hR hS hw (by omega) (by omega) dX2_gives_57
    · replace hw := hw.2 h
      refine lv_iload_n hx hb dX2_gives_16 rfl (lv_at hL.1 1 rfl) ?_
      refine th_aload_n hx hb dX2_gives_17 rfl (lv_at hL.1 0 rfl) ?_
      obtain ⟨ho, hw⟩ := hw
      refine fg_X2_15 CF hK hR ho dX2_gives_18 ?_
      refine lv_iconst hx hb dX2_gives_21 (v := 0) rfl ?_
      obtain ⟨ha, hw⟩ := hw
      refine th_iald hx hb hK hR ha dX2_gives_22 ?_
      refine va_mmin hx hb (CF.2.2.1.trans hL.1.1.symm) CF.2.2.2.1 (CF.2.2.2.2 _ q665) (CF.2.2.2.2 _ q666) (CF.2.2.2.2 _ q119) (CF.2.2.2.2 _ q667) (by decide) (by rw [th_c1.sum th_cn]; exact Nat.le_of_ble_eq_true rfl) (by show _ ≤ (0 : Nat); omega) (by show _ ≤ (0 : Nat); omega) dX2_gives_23 ?_
      obtain ⟨x3_2, hx3_2⟩ : ∃ y : Int32, y = (if a_mi G (a_mr G a0 5) (0 : Int32).toNatClampNeg < x2 then a_mi G (a_mr G a0 5) (0 : Int32).toNatClampNeg else x2) := ⟨_, rfl⟩
      replace hw := hw x3_2 hx3_2
      refine th_nmi hx3_2 ?_
      refine th_istore_n hx hb dX2_gives_26 rfl hL (by decide) rfl (fun ls hL => ?_)
      refine th_aload_n hx hb dX2_gives_27 rfl (lv_at hL.1 1 rfl) ?_
      obtain ⟨ho, hw⟩ := hw
      refine fg_X2_15 CF hK hR ho dX2_gives_28 ?_
      refine lv_iconst hx hb dX2_gives_31 (v := 0) rfl ?_
      refine lv_dup2_11 hx hb dX2_gives_32 rfl (rv_cat _) ?_
      obtain ⟨ha, hw⟩ := hw
      refine th_iald hx hb hK hR ha dX2_gives_33 ?_
      refine lv_iload_n hx hb dX2_gives_34 rfl (lv_at hL.1 0 rfl) ?_
      refine lv_isub hx hb dX2_gives_35 ?_
      obtain ⟨ha, hw⟩ := hw
      refine th_iast hx hb hK hR hS ha dX2_gives_36 (fun G3 H locs hG hR hS => ?_)
      replace hw := hw G3 hG
      refine lv_iload_n hx hb dX2_gives_37 rfl (lv_at hL.1 2 rfl) ?_
      refine lv_iload_n hx hb dX2_gives_38 rfl (lv_at hL.1 0 rfl) ?_
      refine lv_isub hx hb dX2_gives_39 ?_
      obtain ⟨x2_4, hx2_4⟩ : ∃ y : Int32, y = x2 - x3_2 := ⟨_, rfl⟩
      replace hw := hw x2_4 hx2_4
      refine th_nmi hx2_4 ?_
      refine th_istore_n hx hb dX2_gives_40 rfl hL (by decide) rfl (fun ls hL => ?_)
      refine th_aload_n hx hb dX2_gives_41 rfl (lv_at hL.1 2 rfl) ?_
      obtain ⟨ho, hw⟩ := hw
      refine fg_X2_15 CF hK hR ho dX2_gives_42 ?_
      refine lv_iconst hx hb dX2_gives_45 (v := 0) rfl ?_
      obtain ⟨ha, hw⟩ := hw
      refine th_iald hx hb hK hR ha dX2_gives_46 ?_
      refine lv_if_ne hx hb dX2_gives_47 (tgt := 54) (by decide) (fun h => ?_) (fun h => ?_)
      · replace hw := hw.1 h
        exact tk_X2_gives_b54 E (c12 := cells + 0) (s12 := slots + 0) (fun G H locs cells slots ls y0 y1 hw hR hS hL hc => ih hR hS hL hw ⟨by omega, by omega⟩) hR hS (hL.sub [2, 0] rfl) hw ⟨by omega, by omega, by omega, by omega⟩
      · replace hw := hw.2 h
        refine th_aload_n hx hb dX2_gives_50 rfl (lv_at hL.1 2 rfl) ?_
        obtain ⟨ho, hw⟩ := hw
        refine th_kv hS (th_rV CF hK hSt hR hS ho (ci := 2) rfl (rest := []) (tk_X2_dropsFirst) (cw_X2_46 CF hK (by decide +kernel)) hw rfl hL.1.1 rfl th_cn (Nat.le_of_ble_eq_true rfl) dX2_gives_51 ⟨by show _ ≤ (0 : Nat); omega, by show _ ≤ (0 : Nat); omega⟩) (fun G5 H locs hw hR hS => ?_)
        exact tk_X2_gives_b54 E (c12 := cells + 0 + 0) (s12 := slots + 0 + 0) (fun G H locs cells slots ls y0 y1 hw hR hS hL hc => ih hR hS hL hw ⟨by omega, by omega⟩) hR hS (hL.sub [2, 0] rfl) hw ⟨by omega, by omega, by omega, by omega⟩
theorem tk_X2_gives {l : Launch} {D : tD} {B : Nat} {Q : aH → Prop} {a0 : Nat} {x1 : Int32} : Met l yX2_gives (ws_ yX2_gives cX2_gives 4 ((Option.none : Option Jvm.ClassFile.FieldType))) rm_X2_gives (th_P D B [rv a0, .int x1] (fun G => tw_X2_gives Q G a0 x1)) (th_Qv D B Q) 0 0 (th_A B) :=
  th_ofW (by decide +kernel) (th_cr (th_ci th_cn)) (Nat.le_of_ble_eq_true rfl) (fun p e s m args below meth c CF hret hlk hnm hK hSt G ls hR hS hw hL => by
    have E : th_E p m c cX2_gives 4 s args RX2 meth ((Option.none : Option Jvm.ClassFile.FieldType)) "gives" D B := ⟨CF, hret, hlk, hnm, hK, hSt⟩
    have hx := CF.1; have hb := CF.2.1
    have hL : th_L ls 4 [(0, rv a0), (1, .int x1)] := hL
    unfold tw_X2_gives at hw
    refine lv_iload_n hx hb dX2_gives_0 rfl (lv_at hL.1 1 rfl) ?_
    refine th_istore_n hx hb dX2_gives_1 rfl hL (by decide) rfl (fun ls hL => ?_)
    refine th_aload_n hx hb dX2_gives_2 rfl (lv_at hL.1 1 rfl) ?_
    refine lv_dup hx hb dX2_gives_3 (rv_cat _) ?_
    obtain ⟨ho, hw⟩ := hw
    refine fg_X2_25 CF hK hR ho dX2_gives_4 ?_
    refine lv_iload_n hx hb dX2_gives_7 rfl (lv_at hL.1 2 rfl) ?_
    refine lv_iadd hx hb dX2_gives_8 ?_
    obtain ⟨ho, hw⟩ := hw
    refine fp_X2_25 CF hK hR hS ho dX2_gives_9 (fun G1 H locs hG hR hS => ?_)
    replace hw := hw G1 hG
    obtain ⟨n9, hw⟩ := hw
    exact tk_X2_gives_b12 E n9 hR hS (hL.sub [1, 0] rfl) hw ⟨by omega, by omega⟩)
def tw_X3_puts_b49 (Q : aH → Prop) (G : aH) (a0 : Nat) (x2 : Int32) : Prop :=
  th_o G a0 3 ∧ (
  th_o G a0 3 ∧ (
  th_ai G (a_mr G a0 0) 3 ((a_mi G a0 1) - 1) ∧ (
  th_o G (a_mr G (a_mr G a0 0) ((a_mi G a0 1) - 1).toNatClampNeg) 4 ∧ (
  th_o G (a_mr G (a_mr G a0 0) ((a_mi G a0 1) - 1).toNatClampNeg) 4 ∧ (
  ∀ G3 : aH, G3 = a_si G (a_mr G (a_mr G a0 0) ((a_mi G a0 1) - 1).toNatClampNeg) 1 ((a_mi G (a_mr G (a_mr G a0 0) ((a_mi G a0 1) - 1).toNatClampNeg) 1) + x2) → 
  th_o G3 a0 3 ∧ (
  th_o G3 a0 3 ∧ (
  ∀ G4 : aH, G4 = a_si G3 a0 2 ((a_mi G3 a0 2) + x2) → 
  Q G4)))))))
def tw_X3_puts_b25 (Q : aH → Prop) (G : aH) (a0 : Nat) (x1 : Int32) (x2 : Int32) : Prop :=
  th_o G a0 3 ∧ (
  th_o G a0 3 ∧ (
  th_ai G (a_mr G a0 0) 3 (a_mi G a0 1) ∧ (
  th_o G (a_mr G (a_mr G a0 0) (a_mi G a0 1).toNatClampNeg) 4 ∧ (
  (tw_X4_becomes
    (fun (G1 : aH) =>
      th_o G1 a0 3 ∧ (
      th_o G1 a0 3 ∧ (
      ∀ G2 : aH, G2 = a_si G1 a0 1 ((a_mi G1 a0 1) + 1) → 
      tw_X3_puts_b49 Q G2 a0 x2)))
    G (a_mr G (a_mr G a0 0) (a_mi G a0 1).toNatClampNeg) x1 0)))))
def tw_X3_puts (Q : aH → Prop) (G : aH) (a0 : Nat) (x1 : Int32) (x2 : Int32) : Prop :=
  th_o G a0 3 ∧ (
  (a_mi G a0 1 = 0 →
    tw_X3_puts_b25 Q G a0 x1 x2) ∧
  (¬ a_mi G a0 1 = 0 →
    th_o G a0 3 ∧ (
    th_o G a0 3 ∧ (
    th_ai G (a_mr G a0 0) 3 ((a_mi G a0 1) - 1) ∧ (
    th_o G (a_mr G (a_mr G a0 0) ((a_mi G a0 1) - 1).toNatClampNeg) 4 ∧ (
    (a_mi G (a_mr G (a_mr G a0 0) ((a_mi G a0 1) - 1).toNatClampNeg) 0 = x1 →
      tw_X3_puts_b49 Q G a0 x2) ∧
    (¬ a_mi G (a_mr G (a_mr G a0 0) ((a_mi G a0 1) - 1).toNatClampNeg) 0 = x1 →
      tw_X3_puts_b25 Q G a0 x1 x2)))))))
theorem tk_X3_puts_b49 {p : Program} {l : Launch} {e : Env} {s : State} {m : MethodId} {args : Array Value} {below : List Frame} {meth : Method} {c : Code} {D : tD} {B : Nat} (E : th_E p m c cX3_puts 3 s args RX3 meth ((Option.none : Option Jvm.ClassFile.FieldType)) "puts" D B) {Q : aH → Prop} {G : aH} {H : Heap} {locs : List Loc} {cells slots : Nat} {ls : Array Slot} {a0 : Nat} {x2 : Int32} (hR : th_H D B G H) (hS : va_S (th_A B) s.heap H locs) (hL : th_L ls 3 [(0, rv a0), (2, .int x2)]) (hw : tw_X3_puts_b49 Q G a0 x2) (hc : cells + (0) ≤ 0 ∧ slots + (0) ≤ 0) : W p l e rm_X3_puts s m args below meth c H locs cells slots (MQ below (th_Qv D B Q) args s 0 0 (th_A B)) (F0 m 49 ls []) := by
  have CF := E.1; have hx := CF.1; have hb := CF.2.1; have hret := E.2.1; have hlk := E.2.2.1; have hnm := E.2.2.2.1; have hK := E.2.2.2.2.1; have hSt := E.2.2.2.2.2
  unfold tw_X3_puts_b49 at hw
  refine th_aload_n hx hb dX3_puts_49 rfl (lv_at hL.1 0 rfl) ?_
  obtain ⟨ho, hw⟩ := hw
  refine fg_X3_11 CF hK hR ho dX3_puts_50 ?_
  refine th_aload_n hx hb dX3_puts_53 rfl (lv_at hL.1 0 rfl) ?_
  obtain ⟨ho, hw⟩ := hw
  refine fg_X3_23 CF hK hR ho dX3_puts_54 ?_
  refine lv_iconst hx hb dX3_puts_57 (v := 1) rfl ?_
  refine lv_isub hx hb dX3_puts_58 ?_
  obtain ⟨ha, hw⟩ := hw
  refine th_aald hx hb hK 3 (by decide) rfl rfl hR ha dX3_puts_59 ?_
  refine lv_dup hx hb dX3_puts_60 (rv_cat _) ?_
  obtain ⟨ho, hw⟩ := hw
  refine fg_X3_33 CF hK hR ho dX3_puts_61 ?_
  refine lv_iload_n hx hb dX3_puts_64 rfl (lv_at hL.1 1 rfl) ?_
  refine lv_iadd hx hb dX3_puts_65 ?_
  obtain ⟨ho, hw⟩ := hw
  refine fp_X3_33 CF hK hR hS ho dX3_puts_66 (fun G3 H locs hG hR hS => ?_)
  replace hw := hw G3 hG
  refine th_aload_n hx hb dX3_puts_69 rfl (lv_at hL.1 0 rfl) ?_
  refine lv_dup hx hb dX3_puts_70 (rv_cat _) ?_
  obtain ⟨ho, hw⟩ := hw
  refine fg_X3_27 CF hK hR ho dX3_puts_71 ?_
  refine lv_iload_n hx hb dX3_puts_74 rfl (lv_at hL.1 1 rfl) ?_
  refine lv_iadd hx hb dX3_puts_75 ?_
  obtain ⟨ho, hw⟩ := hw
  refine fp_X3_27 CF hK hR hS ho dX3_puts_76 (fun G4 H locs hG hR hS => ?_)
  replace hw := hw G4 hG
  exact th_vret hx hb hret hlk hR hS hw (by omega) (by omega) dX3_puts_79
theorem tk_X3_puts_b25 {p : Program} {l : Launch} {e : Env} {s : State} {m : MethodId} {args : Array Value} {below : List Frame} {meth : Method} {c : Code} {D : tD} {B : Nat} (E : th_E p m c cX3_puts 3 s args RX3 meth ((Option.none : Option Jvm.ClassFile.FieldType)) "puts" D B) {Q : aH → Prop} {G : aH} {H : Heap} {locs : List Loc} {cells slots : Nat} {ls : Array Slot} {a0 : Nat} {x1 : Int32} {x2 : Int32} (hR : th_H D B G H) (hS : va_S (th_A B) s.heap H locs) (hL : th_L ls 3 [(0, rv a0), (1, .int x1), (2, .int x2)]) (hw : tw_X3_puts_b25 Q G a0 x1 x2) (hc : cells + (0) ≤ 0 ∧ slots + (0) ≤ 0) : W p l e rm_X3_puts s m args below meth c H locs cells slots (MQ below (th_Qv D B Q) args s 0 0 (th_A B)) (F0 m 25 ls []) := by
  have CF := E.1; have hx := CF.1; have hb := CF.2.1; have hret := E.2.1; have hlk := E.2.2.1; have hnm := E.2.2.2.1; have hK := E.2.2.2.2.1; have hSt := E.2.2.2.2.2
  unfold tw_X3_puts_b25 at hw
  refine th_aload_n hx hb dX3_puts_25 rfl (lv_at hL.1 0 rfl) ?_
  obtain ⟨ho, hw⟩ := hw
  refine fg_X3_11 CF hK hR ho dX3_puts_26 ?_
  refine th_aload_n hx hb dX3_puts_29 rfl (lv_at hL.1 0 rfl) ?_
  obtain ⟨ho, hw⟩ := hw
  refine fg_X3_23 CF hK hR ho dX3_puts_30 ?_
  obtain ⟨ha, hw⟩ := hw
  refine th_aald hx hb hK 3 (by decide) rfl rfl hR ha dX3_puts_33 ?_
  refine lv_iload_n hx hb dX3_puts_34 rfl (lv_at hL.1 1 rfl) ?_
  refine lv_iconst hx hb dX3_puts_35 (v := 0) rfl ?_
  obtain ⟨ho, hw⟩ := hw
  refine th_kv hS (th_rV CF hK hSt hR hS ho (ci := 4) rfl (rest := []) (tk_X4_becomes) (cw_X3_34 CF hK (by decide +kernel)) hw rfl hL.1.1 rfl th_cn (Nat.le_of_ble_eq_true rfl) dX3_puts_36 ⟨by show _ ≤ (0 : Nat); omega, by show _ ≤ (0 : Nat); omega⟩) (fun G1 H locs hw hR hS => ?_)
  refine th_aload_n hx hb dX3_puts_39 rfl (lv_at hL.1 0 rfl) ?_
  refine lv_dup hx hb dX3_puts_40 (rv_cat _) ?_
  obtain ⟨ho, hw⟩ := hw
  refine fg_X3_23 CF hK hR ho dX3_puts_41 ?_
  refine lv_iconst hx hb dX3_puts_44 (v := 1) rfl ?_
  refine lv_iadd hx hb dX3_puts_45 ?_
  obtain ⟨ho, hw⟩ := hw
  refine fp_X3_23 CF hK hR hS ho dX3_puts_46 (fun G2 H locs hG hR hS => ?_)
  replace hw := hw G2 hG
  exact tk_X3_puts_b49 E hR hS (hL.sub [0, 2] rfl) hw ⟨by omega, by omega⟩
theorem tk_X3_puts {l : Launch} {D : tD} {B : Nat} {Q : aH → Prop} {a0 : Nat} {x1 : Int32} {x2 : Int32} : Met l yX3_puts (ws_ yX3_puts cX3_puts 3 ((Option.none : Option Jvm.ClassFile.FieldType))) rm_X3_puts (th_P D B [rv a0, .int x1, .int x2] (fun G => tw_X3_puts Q G a0 x1 x2)) (th_Qv D B Q) 0 0 (th_A B) :=
  th_ofW (by decide +kernel) (th_cr (th_ci (th_ci th_cn))) (Nat.le_of_ble_eq_true rfl) (fun p e s m args below meth c CF hret hlk hnm hK hSt G ls hR hS hw hL => by
    have E : th_E p m c cX3_puts 3 s args RX3 meth ((Option.none : Option Jvm.ClassFile.FieldType)) "puts" D B := ⟨CF, hret, hlk, hnm, hK, hSt⟩
    have hx := CF.1; have hb := CF.2.1
    have hL : th_L ls 3 [(0, rv a0), (1, .int x1), (2, .int x2)] := hL
    unfold tw_X3_puts at hw
    refine th_aload_n hx hb dX3_puts_0 rfl (lv_at hL.1 0 rfl) ?_
    obtain ⟨ho, hw⟩ := hw
    refine fg_X3_23 CF hK hR ho dX3_puts_1 ?_
    refine lv_if_eq hx hb dX3_puts_4 (tgt := 25) (by decide) (fun h => ?_) (fun h => ?_)
    · replace hw := hw.1 h
      exact tk_X3_puts_b25 E hR hS (hL.sub [0, 1, 2] rfl) hw ⟨by omega, by omega⟩
    · replace hw := hw.2 h
      refine th_aload_n hx hb dX3_puts_7 rfl (lv_at hL.1 0 rfl) ?_
      obtain ⟨ho, hw⟩ := hw
      refine fg_X3_11 CF hK hR ho dX3_puts_8 ?_
      refine th_aload_n hx hb dX3_puts_11 rfl (lv_at hL.1 0 rfl) ?_
      obtain ⟨ho, hw⟩ := hw
      refine fg_X3_23 CF hK hR ho dX3_puts_12 ?_
      refine lv_iconst hx hb dX3_puts_15 (v := 1) rfl ?_
      refine lv_isub hx hb dX3_puts_16 ?_
      obtain ⟨ha, hw⟩ := hw
      refine th_aald hx hb hK 3 (by decide) rfl rfl hR ha dX3_puts_17 ?_
      obtain ⟨ho, hw⟩ := hw
      refine fg_X3_30 CF hK hR ho dX3_puts_18 ?_
      refine lv_iload_n hx hb dX3_puts_21 rfl (lv_at hL.1 1 rfl) ?_
      refine lv_icmp_eq hx hb dX3_puts_22 (tgt := 49) (by decide) (fun h => ?_) (fun h => ?_)
      · replace hw := hw.1 h
        exact tk_X3_puts_b49 E hR hS (hL.sub [0, 2] rfl) hw ⟨by omega, by omega⟩
      · replace hw := hw.2 h
        exact tk_X3_puts_b25 E hR hS (hL.sub [0, 1, 2] rfl) hw ⟨by omega, by omega⟩)
def tw_X0_doCart_b125 (Q : Int32 → aH → Prop) (X : Nat → aH → Prop) (G : aH) (x1 : Int32) (x2 : Int32) (a4 : Nat) (a5 : Nat) (tx0 : Int32) : Prop :=
  th_o G a5 3 ∧ (
  (tw_X0_allow
    (fun (G19 : aH) =>
      th_o G19 a4 2 ∧ (
      (tw_X2_gives
        (fun (G20 : aH) =>
          th_o G20 a5 3 ∧ (
          (tw_X3_puts
            (fun (G21 : aH) =>
              th_o G21 a5 3 ∧ (
              Q (a_mi G21 a5 2) G21))
            G20 a5 x1 x2)))
        G19 a4 x2)))
    X
    G tx0 3 (60 - (a_mi G a5 2))))
def tw_X0_doCart_b104 (Q : Int32 → aH → Prop) (X : Nat → aH → Prop) (G : aH) (ta0 : Nat) (tx1 : Int32) (tx2 : Int32) (ta3 : Nat) (ta4 : Nat) : Prop :=
  (a_sh G ta3).1 ≠ 0 ∧ (
  (tw_X10_init_2
    (fun (G29 : aH) =>
      th_oo G29 ta4 [9, 10, 11] ∧ (
      X ta4 G29))
    G ta3 tx2 tx1 ta0))
def tw_X0_doCart (Q : Int32 → aH → Prop) (X : Nat → aH → Prop) (G : aH) (a0 : Nat) (x1 : Int32) (x2 : Int32) (x3 : Int32) : Prop :=
  ∀ z1 : Nat, z1 = a_sz G → ∀ G2 : aH, G2 = a_nw G (100 + 2) 2 → 
  th_o G2 a0 0 ∧ (
  (tw_X0_isParish
    (fun (r4 : Int32) (G3 : aH) =>
      th_ai G3 z1 2 0 ∧ (
      ∀ G5 : aH, G5 = a_si G3 z1 (0 : Int32).toNatClampNeg (r4 &&& 1) → 
      (tw_X0_isBay
        (fun (r7 : Int32) (G6 : aH) =>
          th_ai G6 z1 2 1 ∧ (
          ∀ G8 : aH, G8 = a_si G6 z1 (1 : Int32).toNatClampNeg (r7 &&& 1) → 
          (tw_X0_all
            (fun (r10 : Int32) (G9 : aH) =>
              (tw_X0_want
                (fun (G11 : aH) =>
                  (tw_X0_within
                    (fun (r13 : Int32) (G12 : aH) =>
                      (tw_X0_want
                        (fun (G14 : aH) =>
                          th_o G14 a0 0 ∧ (
                          th_o G14 (a_mr G14 a0 0) 1 ∧ (
                          th_ai G14 (a_mr G14 (a_mr G14 a0 0) 0) 4 x1 ∧ (
                          ∀ a4_15 : Nat, a4_15 = a_mr G14 (a_mr G14 (a_mr G14 a0 0) 0) x1.toNatClampNeg → 
                          th_o G14 a0 0 ∧ (
                          th_o G14 (a_mr G14 a0 0) 1 ∧ (
                          th_ai G14 (a_mr G14 (a_mr G14 a0 0) 2) 5 x3 ∧ (
                          ∀ a5_16 : Nat, a5_16 = a_mr G14 (a_mr G14 (a_mr G14 a0 0) 2) x3.toNatClampNeg → 
                          th_o G14 a4_15 2 ∧ (
                          (tw_X2_due
                            (fun (r18 : Int32) (G17 : aH) =>
                              (x2 ≤ r18 →
                                th_o G17 a5_16 3 ∧ (
                                (60 - (a_mi G17 a5_16 2) < x2 →
                                  tw_X0_doCart_b125 Q X G17 x1 x2 a4_15 a5_16 0) ∧
                                (¬ 60 - (a_mi G17 a5_16 2) < x2 →
                                  tw_X0_doCart_b125 Q X G17 x1 x2 a4_15 a5_16 1))) ∧
                              (¬ x2 ≤ r18 →
                                ∀ z22 : Nat, z22 = a_sz G17 → ∀ G23 : aH, G23 = a_nw G17 (10 + 1) 0 → 
                                th_o G23 a4_15 2 ∧ (
                                (tw_X2_due
                                  (fun (r25 : Int32) (G24 : aH) =>
                                    th_o G24 a4_15 2 ∧ (
                                    (¬ a_mi G24 a4_15 3 = 0 →
                                      ∀ z26 : Nat, z26 = a_sz G24 → ∀ G27 : aH, G27 = a_nw G24 (10 + 1) 0 → 
                                      th_o G27 a4_15 2 ∧ (
                                      (a_sh G27 z26).1 ≠ 0 ∧ (
                                      (tw_X10_init
                                        (fun (G28 : aH) =>
                                          tw_X0_doCart_b104 Q X G28 z26 r25 2 z22 z22)
                                        G27 z26 12 (a_mi G27 a4_15 3))))) ∧
                                    (a_mi G24 a4_15 3 = 0 →
                                      tw_X0_doCart_b104 Q X G24 0 r25 2 z22 z22)))
                                  G23 a4_15))))
                            G14 a4_15)))))))))
                        X
                        G12 r13 (-2)))
                    G11 x2 1 60))
                X
                G9 r10 (-1)))
            G8 z1)))
        G5 x3)))
    G2 a0 x1))
theorem tk_X0_doCart_b125 {p : Program} {l : Launch} {e : Env} {s : State} {m : MethodId} {args : Array Value} {below : List Frame} {meth : Method} {c : Code} {D : tD} {B : Nat} (E : th_E p m c cX0_doCart 6 s args RX0 meth ((Option.some Jvm.ClassFile.FieldType.int)) "doCart" D B) (htab : c.exceptionTable.toList = tableOf []) {Q : Int32 → aH → Prop} {X : Nat → aH → Prop} {G : aH} {H : Heap} {locs : List Loc} {cells slots : Nat} {ls : Array Slot} {x1 : Int32} {x2 : Int32} {a4 : Nat} {a5 : Nat} {tx0 : Int32} (hR : th_H D B G H) (hS : va_S (th_A B) s.heap H locs) (hL : th_L ls 6 [(1, .int x1), (2, .int x2), (4, rv a4), (5, rv a5)]) (hw : tw_X0_doCart_b125 Q X G x1 x2 a4 a5 tx0) (hc : cells + (1) ≤ 5 ∧ slots + (8) ≤ 32) : W p l e rm_X0_doCart s m args below meth c H locs cells slots (vz_MQ below (th_Qi D B Q) (th_X D B X) args s 5 32 (th_A B)) (F0 m 125 ls [.int tx0]) := by
  have CF := E.1; have hx := CF.1; have hb := CF.2.1; have hret := E.2.1; have hlk := E.2.2.1; have hnm := E.2.2.2.1; have hK := E.2.2.2.2.1; have hSt := E.2.2.2.2.2
  unfold tw_X0_doCart_b125 at hw
  refine lv_iconst hx hb dX0_doCart_125 (v := 3) rfl ?_
  refine lv_bipush hx hb dX0_doCart_126 (v := 60) rfl ?_
  refine th_aload hx hb dX0_doCart_128 (lv_at hL.1 3 rfl) ?_
  obtain ⟨ho, hw⟩ := hw
  refine fg_X0_164 CF hK hR ho dX0_doCart_130 ?_
  refine lv_isub hx hb dX0_doCart_133 ?_
  refine th_Xkv hS (th_XrS CF hK hSt hR hS (rest := []) (tk_X0_allow) (cw_X0_97 CF hK (by decide +kernel)) hw rfl hL.1.1 rfl th_cn (Nat.le_of_ble_eq_true rfl) dX0_doCart_134 ⟨by show _ ≤ (5 : Nat); omega, by show _ ≤ (32 : Nat); omega⟩) (fun e9 G9 H locs hw ho hR hS => ?_) (fun G19 H locs hw hR hS => ?_)
  · exact th_out hK hlk (by rw [htab]; decide) hR hS hw ho (by omega) (by omega)
  · skip
    refine th_aload hx hb dX0_doCart_137 (lv_at hL.1 2 rfl) ?_
    refine lv_iload_n hx hb dX0_doCart_139 rfl (lv_at hL.1 1 rfl) ?_
    obtain ⟨ho, hw⟩ := hw
    refine th_kv hS (th_rV CF hK hSt hR hS ho (ci := 2) rfl (rest := []) (tk_X2_gives) (cw_X0_169 CF hK (by decide +kernel)) hw rfl hL.1.1 rfl th_cn (Nat.le_of_ble_eq_true rfl) dX0_doCart_140 ⟨by show _ ≤ (5 : Nat); omega, by show _ ≤ (32 : Nat); omega⟩) (fun G20 H locs hw hR hS => ?_)
    refine th_aload hx hb dX0_doCart_143 (lv_at hL.1 3 rfl) ?_
    refine lv_iload_n hx hb dX0_doCart_145 rfl (lv_at hL.1 0 rfl) ?_
    refine lv_iload_n hx hb dX0_doCart_146 rfl (lv_at hL.1 1 rfl) ?_
    obtain ⟨ho, hw⟩ := hw
    refine th_kv hS (th_rV CF hK hSt hR hS ho (ci := 3) rfl (rest := []) (tk_X3_puts) (cw_X0_172 CF hK (by decide +kernel)) hw rfl hL.1.1 rfl th_cn (Nat.le_of_ble_eq_true rfl) dX0_doCart_147 ⟨by show _ ≤ (5 : Nat); omega, by show _ ≤ (32 : Nat); omega⟩) (fun G21 H locs hw hR hS => ?_)
    refine th_aload hx hb dX0_doCart_150 (lv_at hL.1 3 rfl) ?_
    obtain ⟨ho, hw⟩ := hw
    refine fg_X0_164 CF hK hR ho dX0_doCart_152 ?_
    exact vz_ret (th_iret hx hb hret hlk hR hS hw (by omega) (by omega) dX0_doCart_155)
theorem tk_X0_doCart_b104 {p : Program} {l : Launch} {e : Env} {s : State} {m : MethodId} {args : Array Value} {below : List Frame} {meth : Method} {c : Code} {D : tD} {B : Nat} (E : th_E p m c cX0_doCart 6 s args RX0 meth ((Option.some Jvm.ClassFile.FieldType.int)) "doCart" D B) (htab : c.exceptionTable.toList = tableOf []) {Q : Int32 → aH → Prop} {X : Nat → aH → Prop} {G : aH} {H : Heap} {locs : List Loc} {cells slots : Nat} {ls : Array Slot} {ta0 : Nat} {tx1 : Int32} {tx2 : Int32} {ta3 : Nat} {ta4 : Nat} (hR : th_H D B G H) (hS : va_S (th_A B) s.heap H locs) (hL : th_L ls 6 []) (hw : tw_X0_doCart_b104 Q X G ta0 tx1 tx2 ta3 ta4) (hc : cells + (0) ≤ 5 ∧ slots + (0) ≤ 32) : W p l e rm_X0_doCart s m args below meth c H locs cells slots (vz_MQ below (th_Qi D B Q) (th_X D B X) args s 5 32 (th_A B)) (F0 m 104 ls [rv ta0, .int tx1, .int tx2, rv ta3, rv ta4]) := by
  have CF := E.1; have hx := CF.1; have hb := CF.2.1; have hret := E.2.1; have hlk := E.2.2.1; have hnm := E.2.2.2.1; have hK := E.2.2.2.2.1; have hSt := E.2.2.2.2.2
  unfold tw_X0_doCart_b104 at hw
  obtain ⟨h0, hw⟩ := hw
  refine th_kv hS (th_rI CF hK hSt hR hS h0 (rest := [rv ta4]) (tk_X10_init_2) (cw_X0_161 CF hK (by decide +kernel)) hw rfl hL.1.1 rfl (th_cr th_cn) (Nat.le_of_ble_eq_true rfl) dX0_doCart_104 ⟨by show _ ≤ (5 : Nat); omega, by show _ ≤ (32 : Nat); omega⟩) (fun G29 H locs hw hR hS => ?_)
  obtain ⟨ho, hw⟩ := hw
  refine th_athrowo hx hb hR ho dX0_doCart_107 ?_
  exact th_out hK hlk (by rw [htab]; decide) hR hS hw ho (by omega) (by omega)
theorem tk_X0_doCart {l : Launch} {D : tD} {B : Nat} {Q : Int32 → aH → Prop} {X : Nat → aH → Prop} {a0 : Nat} {x1 : Int32} {x2 : Int32} {x3 : Int32} : vz_Met l yX0_doCart (ws_ yX0_doCart cX0_doCart 6 ((Option.some Jvm.ClassFile.FieldType.int))) rm_X0_doCart (th_P D B [rv a0, .int x1, .int x2, .int x3] (fun G => tw_X0_doCart Q X G a0 x1 x2 x3)) (th_Qi D B Q) (th_X D B X) 5 32 (th_A B) :=
  th_ofX (by decide +kernel) (th_cr (th_ci (th_ci (th_ci th_cn)))) (Nat.le_of_ble_eq_true rfl) (fun p e s m args below meth c CF hret hlk hnm htab0 hK hSt G ls hR hS hw hL => by
    have E : th_E p m c cX0_doCart 6 s args RX0 meth ((Option.some Jvm.ClassFile.FieldType.int)) "doCart" D B := ⟨CF, hret, hlk, hnm, hK, hSt⟩
    have htab : c.exceptionTable.toList = tableOf [] := th_notab htab0
    have hx := CF.1; have hb := CF.2.1
    have hL : th_L ls 6 [(0, rv a0), (1, .int x1), (2, .int x2), (3, .int x3)] := hL
    unfold tw_X0_doCart at hw
    refine lv_iconst hx hb dX0_doCart_0 (v := 2) rfl ?_
    refine th_newa hx hb 2 (atype := .boolean) (CF.2.2.2.2 _ q676) rfl (by decide) (n := 2) 2 (by decide) rfl (by decide +kernel) hK hR hS (by show _ ≤ (5 : Nat); omega) (by show _ ≤ (32 : Nat); omega) dX0_doCart_1 (fun z1 G2 H hz hG hR hS => ?_)
    replace hw := hw z1 hz G2 hG
    refine lv_dup hx hb dX0_doCart_3 (rv_cat _) ?_
    refine lv_iconst hx hb dX0_doCart_4 (v := 0) rfl ?_
    refine th_aload_n hx hb dX0_doCart_5 rfl (lv_at hL.1 0 rfl) ?_
    refine lv_iload_n hx hb dX0_doCart_6 rfl (lv_at hL.1 1 rfl) ?_
    obtain ⟨ho, hw⟩ := hw
    refine th_ki hS (th_rV CF hK hSt hR hS ho (ci := 0) rfl (rest := [.int 0, rv z1, rv z1]) (tk_X0_isParish) (cw_X0_124 CF hK (by decide +kernel)) hw rfl hL.1.1 rfl (th_ci (th_cr (th_cr th_cn))) (Nat.le_of_ble_eq_true rfl) dX0_doCart_7 ⟨by show _ ≤ (5 : Nat); omega, by show _ ≤ (32 : Nat); omega⟩) (fun r4 G3 H locs hw hR hS => ?_)
    obtain ⟨ha, hw⟩ := hw
    refine th_zast hx hb hK hR hS ha dX0_doCart_10 (fun G5 H locs hG hR hS => ?_)
    replace hw := hw G5 hG
    refine lv_dup hx hb dX0_doCart_11 (rv_cat _) ?_
    refine lv_iconst hx hb dX0_doCart_12 (v := 1) rfl ?_
    refine lv_iload_n hx hb dX0_doCart_13 rfl (lv_at hL.1 3 rfl) ?_
    refine th_ki hS (th_rS CF hK hSt hR hS (rest := [.int 1, rv z1, rv z1]) (tk_X0_isBay) (cw_X0_143 CF hK (by decide +kernel)) hw rfl hL.1.1 rfl (th_ci (th_cr (th_cr th_cn))) (Nat.le_of_ble_eq_true rfl) dX0_doCart_14 ⟨by show _ ≤ (5 : Nat); omega, by show _ ≤ (32 : Nat); omega⟩) (fun r7 G6 H locs hw hR hS => ?_)
    obtain ⟨ha, hw⟩ := hw
    refine th_zast hx hb hK hR hS ha dX0_doCart_17 (fun G8 H locs hG hR hS => ?_)
    replace hw := hw G8 hG
    refine th_ki hS (th_rS CF hK hSt hR hS (rest := []) (tk_X0_all) (cw_X0_146 CF hK (by decide +kernel)) hw rfl hL.1.1 rfl th_cn (Nat.le_of_ble_eq_true rfl) dX0_doCart_18 ⟨by show _ ≤ (5 : Nat); omega, by show _ ≤ (32 : Nat); omega⟩) (fun r10 G9 H locs hw hR hS => ?_)
    refine lv_iconst hx hb dX0_doCart_21 (v := (-1)) rfl ?_
    refine th_Xkv hS (th_XrS CF hK hSt hR hS (rest := []) (tk_X0_want) (cw_X0_93 CF hK (by decide +kernel)) hw rfl hL.1.1 rfl th_cn (Nat.le_of_ble_eq_true rfl) dX0_doCart_22 ⟨by show _ ≤ (5 : Nat); omega, by show _ ≤ (32 : Nat); omega⟩) (fun e9 G9 H locs hw ho hR hS => ?_) (fun G11 H locs hw hR hS => ?_)
    · exact th_out hK hlk (by rw [htab]; decide) hR hS hw ho (by omega) (by omega)
    · skip
      refine lv_iload_n hx hb dX0_doCart_25 rfl (lv_at hL.1 2 rfl) ?_
      refine lv_iconst hx hb dX0_doCart_26 (v := 1) rfl ?_
      refine lv_bipush hx hb dX0_doCart_27 (v := 60) rfl ?_
      refine th_ki hS (th_rS CF hK hSt hR hS (rest := []) (tk_X0_within) (cw_X0_82 CF hK (by decide +kernel)) hw rfl hL.1.1 rfl th_cn (Nat.le_of_ble_eq_true rfl) dX0_doCart_29 ⟨by show _ ≤ (5 : Nat); omega, by show _ ≤ (32 : Nat); omega⟩) (fun r13 G12 H locs hw hR hS => ?_)
      refine lv_bipush hx hb dX0_doCart_32 (v := (-2)) rfl ?_
      refine th_Xkv hS (th_XrS CF hK hSt hR hS (rest := []) (tk_X0_want) (cw_X0_93 CF hK (by decide +kernel)) hw rfl hL.1.1 rfl th_cn (Nat.le_of_ble_eq_true rfl) dX0_doCart_34 ⟨by show _ ≤ (5 : Nat); omega, by show _ ≤ (32 : Nat); omega⟩) (fun e9 G9 H locs hw ho hR hS => ?_) (fun G14 H locs hw hR hS => ?_)
      · exact th_out hK hlk (by rw [htab]; decide) hR hS hw ho (by omega) (by omega)
      · skip
        refine th_aload_n hx hb dX0_doCart_37 rfl (lv_at hL.1 0 rfl) ?_
        obtain ⟨ho, hw⟩ := hw
        refine fg_X0_22 CF hK hR ho dX0_doCart_38 ?_
        obtain ⟨ho, hw⟩ := hw
        refine fg_X0_101 CF hK hR ho dX0_doCart_41 ?_
        refine lv_iload_n hx hb dX0_doCart_44 rfl (lv_at hL.1 1 rfl) ?_
        obtain ⟨ha, hw⟩ := hw
        refine th_aald hx hb hK 4 (by decide) rfl rfl hR ha dX0_doCart_45 ?_
        obtain ⟨a4_15, ha4_15⟩ : ∃ y : Nat, y = a_mr G14 (a_mr G14 (a_mr G14 a0 0) 0) x1.toNatClampNeg := ⟨_, rfl⟩
        replace hw := hw a4_15 ha4_15
        refine th_nmr ha4_15 ?_
        refine th_astore hx hb dX0_doCart_46 hL (by decide) rfl (fun ls hL => ?_)
        refine th_aload_n hx hb dX0_doCart_48 rfl (lv_at hL.1 1 rfl) ?_
        obtain ⟨ho, hw⟩ := hw
        refine fg_X0_22 CF hK hR ho dX0_doCart_49 ?_
        obtain ⟨ho, hw⟩ := hw
        refine fg_X0_150 CF hK hR ho dX0_doCart_52 ?_
        refine lv_iload_n hx hb dX0_doCart_55 rfl (lv_at hL.1 4 rfl) ?_
        obtain ⟨ha, hw⟩ := hw
        refine th_aald hx hb hK 5 (by decide) rfl rfl hR ha dX0_doCart_56 ?_
        obtain ⟨a5_16, ha5_16⟩ : ∃ y : Nat, y = a_mr G14 (a_mr G14 (a_mr G14 a0 0) 2) x3.toNatClampNeg := ⟨_, rfl⟩
        replace hw := hw a5_16 ha5_16
        refine th_nmr ha5_16 ?_
        refine th_astore hx hb dX0_doCart_57 hL (by decide) rfl (fun ls hL => ?_)
        refine th_aload hx hb dX0_doCart_59 (lv_at hL.1 1 rfl) ?_
        obtain ⟨ho, hw⟩ := hw
        refine th_ki hS (th_rV CF hK hSt hR hS ho (ci := 2) rfl (rest := []) (tk_X2_due) (cw_X0_154 CF hK (by decide +kernel)) hw rfl hL.1.1 rfl th_cn (Nat.le_of_ble_eq_true rfl) dX0_doCart_61 ⟨by show _ ≤ (5 : Nat); omega, by show _ ≤ (32 : Nat); omega⟩) (fun r18 G17 H locs hw hR hS => ?_)
        refine lv_iload_n hx hb dX0_doCart_64 rfl (lv_at hL.1 4 rfl) ?_
        refine lv_icmp_ge hx hb dX0_doCart_65 (tgt := 108) (by decide) (fun h => ?_) (fun h => ?_)
        · replace hw := hw.1 h
          refine lv_iload_n hx hb dX0_doCart_108 rfl (lv_at hL.1 4 rfl) ?_
          refine lv_bipush hx hb dX0_doCart_109 (v := 60) rfl ?_
          refine th_aload hx hb dX0_doCart_111 (lv_at hL.1 0 rfl) ?_
          obtain ⟨ho, hw⟩ := hw
          refine fg_X0_164 CF hK hR ho dX0_doCart_113 ?_
          refine lv_isub hx hb dX0_doCart_116 ?_
          refine lv_icmp_gt hx hb dX0_doCart_117 (tgt := 124) (by decide) (fun h => ?_) (fun h => ?_)
          · replace hw := hw.1 h
            refine lv_iconst hx hb dX0_doCart_124 (v := 0) rfl ?_
            exact tk_X0_doCart_b125 E htab hR hS (hL.sub [3, 4, 1, 0] rfl) hw ⟨by omega, by omega⟩
          · replace hw := hw.2 h
            refine lv_iconst hx hb dX0_doCart_120 (v := 1) rfl ?_
            refine lv_goto hx hb dX0_doCart_121 (tgt := 125) (by decide) ?_
            exact tk_X0_doCart_b125 E htab hR hS (hL.sub [3, 4, 1, 0] rfl) hw ⟨by omega, by omega⟩
        · replace hw := hw.2 h
          refine fn_X0_9 CF hK hR hS (by show _ ≤ (5 : Nat); omega) (by show _ ≤ (32 : Nat); omega) dX0_doCart_68 (fun z22 G23 H hz hG hR hS => ?_)
          replace hw := hw z22 hz G23 hG
          refine lv_dup hx hb dX0_doCart_71 (rv_cat _) ?_
          refine lv_iconst hx hb dX0_doCart_72 (v := 2) rfl ?_
          refine th_aload hx hb dX0_doCart_73 (lv_at hL.1 1 rfl) ?_
          obtain ⟨ho, hw⟩ := hw
          refine th_ki hS (th_rV CF hK hSt hR hS ho (ci := 2) rfl (rest := [.int 2, rv z22, rv z22]) (tk_X2_due) (cw_X0_154 CF hK (by decide +kernel)) hw rfl hL.1.1 rfl (th_ci (th_cr (th_cr th_cn))) (Nat.le_of_ble_eq_true rfl) dX0_doCart_75 ⟨by show _ ≤ (5 : Nat); omega, by show _ ≤ (32 : Nat); omega⟩) (fun r25 G24 H locs hw hR hS => ?_)
          refine th_aload hx hb dX0_doCart_78 (lv_at hL.1 1 rfl) ?_
          obtain ⟨ho, hw⟩ := hw
          refine fg_X0_158 CF hK hR ho dX0_doCart_80 ?_
          refine lv_if_ne hx hb dX0_doCart_83 (tgt := 90) (by decide) (fun h => ?_) (fun h => ?_)
          · replace hw := hw.1 h
            refine fn_X0_9 CF hK hR hS (by show _ ≤ (5 : Nat); omega) (by show _ ≤ (32 : Nat); omega) dX0_doCart_90 (fun z26 G27 H hz hG hR hS => ?_)
            replace hw := hw z26 hz G27 hG
            refine lv_dup hx hb dX0_doCart_93 (rv_cat _) ?_
            refine lv_bipush hx hb dX0_doCart_94 (v := 12) rfl ?_
            refine th_aload hx hb dX0_doCart_96 (lv_at hL.1 1 rfl) ?_
            obtain ⟨ho, hw⟩ := hw
            refine fg_X0_158 CF hK hR ho dX0_doCart_98 ?_
            obtain ⟨h0, hw⟩ := hw
            refine th_kv hS (th_rI CF hK hSt hR hS h0 (rest := [rv z26, .int r25, .int 2, rv z22, rv z22]) (tk_X10_init) (cw_X0_11 CF hK (by decide +kernel)) hw rfl hL.1.1 rfl (th_cr (th_ci (th_ci (th_cr (th_cr th_cn))))) (Nat.le_of_ble_eq_true rfl) dX0_doCart_101 ⟨by show _ ≤ (5 : Nat); omega, by show _ ≤ (32 : Nat); omega⟩) (fun G28 H locs hw hR hS => ?_)
            exact tk_X0_doCart_b104 E htab hR hS (hL.sub [] rfl) hw ⟨by omega, by omega⟩
          · replace hw := hw.2 h
            refine th_null hx hb dX0_doCart_86 ?_
            refine lv_goto hx hb dX0_doCart_87 (tgt := 104) (by decide) ?_
            exact tk_X0_doCart_b104 E htab hR hS (hL.sub [] rfl) hw ⟨by omega, by omega⟩)
def tw_X0_changed_b49 (Q : Int32 → aH → Prop) (G : aH) (a0 : Nat) (x1 : Int32) : Prop :=
  th_o G a0 0 ∧ (
  th_o G a0 0 ∧ (
  th_ai G (a_mr G a0 5) 9 (a_mi G a0 6) ∧ (
  th_o G a0 0 ∧ (
  th_o G (a_mr G (a_mr G a0 5) (a_mi G a0 6).toNatClampNeg) 1 ∧ (
  (tw_X1_like
    (fun (G1 : aH) =>
      th_o G1 a0 0 ∧ (
      th_o G1 a0 0 ∧ (
      ∀ G2 : aH, G2 = a_si G1 a0 6 ((a_mi G1 a0 6) + 1) → 
      Q x1 G2)))
    G (a_mr G (a_mr G a0 5) (a_mi G a0 6).toNatClampNeg) (a_mr G a0 1)))))))
def tw_X0_changed (Q : Int32 → aH → Prop) (G : aH) (a0 : Nat) (x1 : Int32) : Prop :=
  th_o G a0 0 ∧ (
  (¬ a_mi G a0 6 = 8 →
    tw_X0_changed_b49 Q G a0 x1) ∧
  (a_mi G a0 6 = 8 →
    th_o G a0 0 ∧ (
    th_ai G (a_mr G a0 5) 9 0 ∧ (
    ∀ a2_3 : Nat, a2_3 = a_mr G (a_mr G a0 5) (0 : Int32).toNatClampNeg → 
    th_o G a0 0 ∧ (
    th_o G a0 0 ∧ (
    th_cpy G 9 (a_mr G a0 5) 1 (a_mr G a0 5) 0 7 ∧ th_els G (a_mr G a0 5) ∧ (
    ∀ G4 : aH, G4 = a_cr G (a_mr G a0 5) (1 : Int32).toNatClampNeg (a_mr G a0 5) (0 : Int32).toNatClampNeg (7 : Int32).toNatClampNeg → 
    th_o G4 a0 0 ∧ (
    th_ai G4 (a_mr G4 a0 5) 9 7 ∧ th_o G4 a2_3 1 ∧ (
    ∀ G5 : aH, G5 = a_sr G4 (a_mr G4 a0 5) (7 : Int32).toNatClampNeg a2_3 → 
    th_o G5 a0 0 ∧ (
    th_o G5 a0 0 ∧ (
    ∀ G6 : aH, G6 = a_si G5 a0 6 ((a_mi G5 a0 6) - 1) → 
    tw_X0_changed_b49 Q G6 a0 x1)))))))))))
theorem tk_X0_changed_b49 {p : Program} {l : Launch} {e : Env} {s : State} {m : MethodId} {args : Array Value} {below : List Frame} {meth : Method} {c : Code} {D : tD} {B : Nat} (E : th_E p m c cX0_changed 3 s args RX0 meth ((Option.some Jvm.ClassFile.FieldType.int)) "changed" D B) {Q : Int32 → aH → Prop} {G : aH} {H : Heap} {locs : List Loc} {cells slots : Nat} {ls : Array Slot} {a0 : Nat} {x1 : Int32} (hR : th_H D B G H) (hS : va_S (th_A B) s.heap H locs) (hL : th_L ls 3 [(0, rv a0), (1, .int x1)]) (hw : tw_X0_changed_b49 Q G a0 x1) (hc : cells + (0) ≤ 0 ∧ slots + (0) ≤ 0) : W p l e rm_X0_changed s m args below meth c H locs cells slots (MQ below (th_Qi D B Q) args s 0 0 (th_A B)) (F0 m 49 ls []) := by
  have CF := E.1; have hx := CF.1; have hb := CF.2.1; have hret := E.2.1; have hlk := E.2.2.1; have hnm := E.2.2.2.1; have hK := E.2.2.2.2.1; have hSt := E.2.2.2.2.2
  unfold tw_X0_changed_b49 at hw
  refine th_aload_n hx hb dX0_changed_49 rfl (lv_at hL.1 0 rfl) ?_
  obtain ⟨ho, hw⟩ := hw
  refine fg_X0_35 CF hK hR ho dX0_changed_50 ?_
  refine th_aload_n hx hb dX0_changed_53 rfl (lv_at hL.1 0 rfl) ?_
  obtain ⟨ho, hw⟩ := hw
  refine fg_X0_63 CF hK hR ho dX0_changed_54 ?_
  obtain ⟨ha, hw⟩ := hw
  refine th_aald hx hb hK 9 (by decide) rfl rfl hR ha dX0_changed_57 ?_
  refine th_aload_n hx hb dX0_changed_58 rfl (lv_at hL.1 0 rfl) ?_
  obtain ⟨ho, hw⟩ := hw
  refine fg_X0_26 CF hK hR ho dX0_changed_59 ?_
  obtain ⟨ho, hw⟩ := hw
  refine th_kv hS (th_rV CF hK hSt hR hS ho (ci := 1) rfl (rest := []) (tk_X1_like) (cw_X0_59 CF hK (by decide +kernel)) hw rfl hL.1.1 rfl th_cn (Nat.le_of_ble_eq_true rfl) dX0_changed_62 ⟨by show _ ≤ (0 : Nat); omega, by show _ ≤ (0 : Nat); omega⟩) (fun G1 H locs hw hR hS => ?_)
  refine th_aload_n hx hb dX0_changed_65 rfl (lv_at hL.1 0 rfl) ?_
  refine lv_dup hx hb dX0_changed_66 (rv_cat _) ?_
  obtain ⟨ho, hw⟩ := hw
  refine fg_X0_63 CF hK hR ho dX0_changed_67 ?_
  refine lv_iconst hx hb dX0_changed_70 (v := 1) rfl ?_
  refine lv_iadd hx hb dX0_changed_71 ?_
  obtain ⟨ho, hw⟩ := hw
  refine fp_X0_63 CF hK hR hS ho dX0_changed_72 (fun G2 H locs hG hR hS => ?_)
  replace hw := hw G2 hG
  refine lv_iload_n hx hb dX0_changed_75 rfl (lv_at hL.1 1 rfl) ?_
  exact th_iret hx hb hret hlk hR hS hw (by omega) (by omega) dX0_changed_76
theorem tk_X0_changed {l : Launch} {D : tD} {B : Nat} {Q : Int32 → aH → Prop} {a0 : Nat} {x1 : Int32} : Met l yX0_changed (ws_ yX0_changed cX0_changed 3 ((Option.some Jvm.ClassFile.FieldType.int))) rm_X0_changed (th_P D B [rv a0, .int x1] (fun G => tw_X0_changed Q G a0 x1)) (th_Qi D B Q) 0 0 (th_A B) :=
  th_ofW (by decide +kernel) (th_cr (th_ci th_cn)) (Nat.le_of_ble_eq_true rfl) (fun p e s m args below meth c CF hret hlk hnm hK hSt G ls hR hS hw hL => by
    have E : th_E p m c cX0_changed 3 s args RX0 meth ((Option.some Jvm.ClassFile.FieldType.int)) "changed" D B := ⟨CF, hret, hlk, hnm, hK, hSt⟩
    have hx := CF.1; have hb := CF.2.1
    have hL : th_L ls 3 [(0, rv a0), (1, .int x1)] := hL
    unfold tw_X0_changed at hw
    refine th_aload_n hx hb dX0_changed_0 rfl (lv_at hL.1 0 rfl) ?_
    obtain ⟨ho, hw⟩ := hw
    refine fg_X0_63 CF hK hR ho dX0_changed_1 ?_
    refine lv_bipush hx hb dX0_changed_4 (v := 8) rfl ?_
    refine lv_icmp_ne hx hb dX0_changed_6 (tgt := 49) (by decide) (fun h => ?_) (fun h => ?_)
    · replace hw := hw.1 h
      exact tk_X0_changed_b49 E hR hS (hL.sub [0, 1] rfl) hw ⟨by omega, by omega⟩
    · replace hw := hw.2 h
      refine th_aload_n hx hb dX0_changed_9 rfl (lv_at hL.1 0 rfl) ?_
      obtain ⟨ho, hw⟩ := hw
      refine fg_X0_35 CF hK hR ho dX0_changed_10 ?_
      refine lv_iconst hx hb dX0_changed_13 (v := 0) rfl ?_
      obtain ⟨ha, hw⟩ := hw
      refine th_aald hx hb hK 9 (by decide) rfl rfl hR ha dX0_changed_14 ?_
      obtain ⟨a2_3, ha2_3⟩ : ∃ y : Nat, y = a_mr G (a_mr G a0 5) (0 : Int32).toNatClampNeg := ⟨_, rfl⟩
      replace hw := hw a2_3 ha2_3
      refine th_nmr ha2_3 ?_
      refine th_astore_n hx hb dX0_changed_15 rfl hL (by decide) rfl (fun ls hL => ?_)
      refine th_aload_n hx hb dX0_changed_16 rfl (lv_at hL.1 1 rfl) ?_
      obtain ⟨ho, hw⟩ := hw
      refine fg_X0_35 CF hK hR ho dX0_changed_17 ?_
      refine lv_iconst hx hb dX0_changed_20 (v := 1) rfl ?_
      refine th_aload_n hx hb dX0_changed_21 rfl (lv_at hL.1 1 rfl) ?_
      obtain ⟨ho, hw⟩ := hw
      refine fg_X0_35 CF hK hR ho dX0_changed_22 ?_
      refine lv_iconst hx hb dX0_changed_25 (v := 0) rfl ?_
      refine lv_bipush hx hb dX0_changed_26 (v := 7) rfl ?_
      obtain ⟨hcp, hel, hw⟩ := hw
      refine th_copyr hx hb (CF.2.2.1.trans hL.1.1.symm) CF.2.2.2.1 (CF.2.2.2.2 _ q617) (CF.2.2.2.2 _ q482) (CF.2.2.2.2 _ q481) (CF.2.2.2.2 _ q121) hK hR hS hcp hel (by decide) th_cn (Nat.le_of_ble_eq_true rfl) (by decide) dX0_changed_28 (fun G4 H locs hG hR hS => ?_)
      replace hw := hw G4 hG
      refine th_aload_n hx hb dX0_changed_31 rfl (lv_at hL.1 1 rfl) ?_
      obtain ⟨ho, hw⟩ := hw
      refine fg_X0_35 CF hK hR ho dX0_changed_32 ?_
      refine lv_bipush hx hb dX0_changed_35 (v := 7) rfl ?_
      refine th_aload_n hx hb dX0_changed_37 rfl (lv_at hL.1 0 rfl) ?_
      obtain ⟨ha, ho, hw⟩ := hw
      refine th_aast hx hb hK 9 (by decide) rfl (ci := 1) rfl (Or.inl rfl) hR hS ha ho dX0_changed_38 (fun G5 H locs hG hR hS => ?_)
      replace hw := hw G5 hG
      refine th_aload_n hx hb dX0_changed_39 rfl (lv_at hL.1 1 rfl) ?_
      refine lv_dup hx hb dX0_changed_40 (rv_cat _) ?_
      obtain ⟨ho, hw⟩ := hw
      refine fg_X0_63 CF hK hR ho dX0_changed_41 ?_
      refine lv_iconst hx hb dX0_changed_44 (v := 1) rfl ?_
      refine lv_isub hx hb dX0_changed_45 ?_
      obtain ⟨ho, hw⟩ := hw
      refine fp_X0_63 CF hK hR hS ho dX0_changed_46 (fun G6 H locs hG hR hS => ?_)
      replace hw := hw G6 hG
      exact tk_X0_changed_b49 E hR hS (hL.sub [1, 2] rfl) hw ⟨by omega, by omega⟩)
def tw_X0_notDone (Q : Int32 → aH → Prop) (G : aH) (a0 : Nat) (a1 : Nat) : Prop :=
  th_o G a0 0 ∧ (
  th_o G a0 0 ∧ (
  th_o G (a_mr G a0 0) 1 ∧ (
  (tw_X1_like
    (fun (G1 : aH) =>
      ∃ o2 : Int32, ((th_o G1 a1 9 ∧ o2 = 1) ∨ (th_o G1 a1 10 ∧ o2 = 0)) ∧ (
      (o2 = 0 →
        (a1 = 0 ∨ th_o G1 a1 10) ∧ (
        th_o G1 a0 0 ∧ (
        ∀ G3 : aH, G3 = a_sr G1 a0 7 a1 → 
        Q (-3) G3))) ∧
      (¬ o2 = 0 →
        (a1 = 0 ∨ th_o G1 a1 9) ∧ (
        th_o G1 a1 9 ∧ (
        Q (a_mi G1 a1 1) G1)))))
    G (a_mr G a0 0) (a_mr G a0 1)))))
theorem tk_X0_notDone {l : Launch} {D : tD} {B : Nat} {Q : Int32 → aH → Prop} {a0 : Nat} {a1 : Nat} : Met l yX0_notDone (ws_ yX0_notDone cX0_notDone 2 ((Option.some Jvm.ClassFile.FieldType.int))) rm_X0_notDone (th_P D B [rv a0, rv a1] (fun G => tw_X0_notDone Q G a0 a1)) (th_Qi D B Q) 0 0 (th_A B) :=
  th_ofW (by decide +kernel) (th_cr (th_cr th_cn)) (Nat.le_of_ble_eq_true rfl) (fun p e s m args below meth c CF hret hlk hnm hK hSt G ls hR hS hw hL => by
    have E : th_E p m c cX0_notDone 2 s args RX0 meth ((Option.some Jvm.ClassFile.FieldType.int)) "notDone" D B := ⟨CF, hret, hlk, hnm, hK, hSt⟩
    have hx := CF.1; have hb := CF.2.1
    have hL : th_L ls 2 [(0, rv a0), (1, rv a1)] := hL
    unfold tw_X0_notDone at hw
    refine th_aload_n hx hb dX0_notDone_0 rfl (lv_at hL.1 0 rfl) ?_
    obtain ⟨ho, hw⟩ := hw
    refine fg_X0_22 CF hK hR ho dX0_notDone_1 ?_
    refine th_aload_n hx hb dX0_notDone_4 rfl (lv_at hL.1 0 rfl) ?_
    obtain ⟨ho, hw⟩ := hw
    refine fg_X0_26 CF hK hR ho dX0_notDone_5 ?_
    obtain ⟨ho, hw⟩ := hw
    refine th_kv hS (th_rV CF hK hSt hR hS ho (ci := 1) rfl (rest := []) (tk_X1_like) (cw_X0_59 CF hK (by decide +kernel)) hw rfl hL.1.1 rfl th_cn (Nat.le_of_ble_eq_true rfl) dX0_notDone_8 ⟨by show _ ≤ (0 : Nat); omega, by show _ ≤ (0 : Nat); omega⟩) (fun G1 H locs hw hR hS => ?_)
    refine th_aload_n hx hb dX0_notDone_11 rfl (lv_at hL.1 1 rfl) ?_
    obtain ⟨o2, hx9, hw⟩ := hw
    suffices hkk : W p l e rm_X0_notDone s m args below meth c H locs (0 + 0) (0 + 0) (MQ below (th_Qi D B Q) args s 0 0 (th_A B)) (F0 m 15 ls [.int o2]) from by
      rcases hx9 with ⟨ho, h1⟩ | ⟨ho, h1⟩
      · subst h1
        exact th_inst hx hb CF.2.2.2.1 (ci := 9) rfl (CF.2.2.2.2 _ q466) hK hR ho dX0_notDone_12 hkk
      · subst h1
        exact th_instN hx hb CF.2.2.2.1 (ci := 10) rfl (CF.2.2.2.2 _ q466) hK.2.2.2.2.1 hK hR ho dX0_notDone_12 hkk
    refine lv_if_eq hx hb dX0_notDone_15 (tgt := 26) (by decide) (fun h => ?_) (fun h => ?_)
    · replace hw := hw.1 h
      refine th_aload_n hx hb dX0_notDone_26 rfl (lv_at hL.1 0 rfl) ?_
      refine th_aload_n hx hb dX0_notDone_27 rfl (lv_at hL.1 1 rfl) ?_
      obtain ⟨ho, hw⟩ := hw
      refine th_cast hx hb CF.2.2.2.1 (ci := 10) rfl (CF.2.2.2.2 _ q467) hK hR ho dX0_notDone_28 ?_
      obtain ⟨ho, hw⟩ := hw
      refine fp_X0_75 CF hK hR hS ho dX0_notDone_31 (fun G3 H locs hG hR hS => ?_)
      replace hw := hw G3 hG
      refine lv_bipush hx hb dX0_notDone_34 (v := (-3)) rfl ?_
      exact th_iret hx hb hret hlk hR hS hw (by omega) (by omega) dX0_notDone_36
    · replace hw := hw.2 h
      refine th_aload_n hx hb dX0_notDone_18 rfl (lv_at hL.1 1 rfl) ?_
      obtain ⟨ho, hw⟩ := hw
      refine th_cast hx hb CF.2.2.2.1 (ci := 9) rfl (CF.2.2.2.2 _ q466) hK hR ho dX0_notDone_19 ?_
      obtain ⟨ho, hw⟩ := hw
      refine fg_X0_72 CF hK hR ho dX0_notDone_22 ?_
      exact th_iret hx hb hret hlk hR hS hw (by omega) (by omega) dX0_notDone_25)
def tw_X0_cart (Q : Int32 → aH → Prop) (G : aH) (a0 : Nat) (x1 : Int32) (x2 : Int32) (x3 : Int32) : Prop :=
  th_o G a0 0 ∧ (
  (tw_X0_begins
    (fun (G1 : aH) =>
      th_o G1 a0 0 ∧ (
      (tw_X0_doCart
        (fun (r3 : Int32) (G2 : aH) =>
          th_o G2 a0 0 ∧ (
          (tw_X0_changed
            (fun (r5 : Int32) (G4 : aH) =>
              Q r5 G4)
            G2 a0 r3)))
        (fun (e6 : Nat) (G7 : aH) =>
          (th_o G7 e6 9 ∧ (
            th_o G7 a0 0 ∧ (
            (tw_X0_notDone
              (fun (r9 : Int32) (G8 : aH) =>
                Q r9 G8)
              G7 a0 e6)))) ∨
          (th_o G7 e6 10 ∧ (
            th_o G7 a0 0 ∧ (
            (tw_X0_notDone
              (fun (r11 : Int32) (G10 : aH) =>
                Q r11 G10)
              G7 a0 e6)))))
        G1 a0 x1 x2 x3)))
    G a0))
theorem tk_X0_cart {l : Launch} {D : tD} {B : Nat} {Q : Int32 → aH → Prop} {a0 : Nat} {x1 : Int32} {x2 : Int32} {x3 : Int32} : vz_Met l yX0_cart (wsW_ yX0_cart cX0_cart 5 ((Option.some Jvm.ClassFile.FieldType.int)) [((4 : Nat), (15 : Nat), (16 : Nat), (3 : Nat)), ((4 : Nat), (15 : Nat), (16 : Nat), (9 : Nat))]) rm_X0_cart (th_P D B [rv a0, .int x1, .int x2, .int x3] (fun G => tw_X0_cart Q G a0 x1 x2 x3)) (th_Qi D B Q) (th_X D B (fun _ _ => False)) 5 32 (th_A B) :=
  th_ofXH (by decide +kernel) (th_cr (th_ci (th_ci (th_ci th_cn)))) (Nat.le_of_ble_eq_true rfl) (fun p e s m args below meth c CF hret hlk hnm htab0 hK hSt G ls hR hS hw hL => by
    have E : th_E p m c cX0_cart 5 s args RX0 meth ((Option.some Jvm.ClassFile.FieldType.int)) "cart" D B := ⟨CF, hret, hlk, hnm, hK, hSt⟩
    have htab : c.exceptionTable.toList = tableOf [((4 : Nat), (15 : Nat), (16 : Nat), (3 : Nat)), ((4 : Nat), (15 : Nat), (16 : Nat), (9 : Nat))] := htab0
    have hx := CF.1; have hb := CF.2.1
    have hL : th_L ls 5 [(0, rv a0), (1, .int x1), (2, .int x2), (3, .int x3)] := hL
    unfold tw_X0_cart at hw
    refine th_aload_n hx hb dX0_cart_0 rfl (lv_at hL.1 0 rfl) ?_
    obtain ⟨ho, hw⟩ := hw
    refine th_kv hS (th_rV CF hK hSt hR hS ho (ci := 0) rfl (rest := []) (tk_X0_begins) (cw_X0_110 CF hK (by decide +kernel)) hw rfl hL.1.1 rfl th_cn (Nat.le_of_ble_eq_true rfl) dX0_cart_1 ⟨by show _ ≤ (5 : Nat); omega, by show _ ≤ (32 : Nat); omega⟩) (fun G1 H locs hw hR hS => ?_)
    refine th_aload_n hx hb dX0_cart_4 rfl (lv_at hL.1 0 rfl) ?_
    refine th_aload_n hx hb dX0_cart_5 rfl (lv_at hL.1 0 rfl) ?_
    refine lv_iload_n hx hb dX0_cart_6 rfl (lv_at hL.1 1 rfl) ?_
    refine lv_iload_n hx hb dX0_cart_7 rfl (lv_at hL.1 2 rfl) ?_
    refine lv_iload_n hx hb dX0_cart_8 rfl (lv_at hL.1 3 rfl) ?_
    obtain ⟨ho, hw⟩ := hw
    refine th_Xki hS (th_XrV CF hK hSt hR hS ho (ci := 0) rfl (rest := [rv a0]) (tk_X0_doCart) (cw_X0_175 CF hK (by decide +kernel)) hw rfl hL.1.1 rfl (th_cr th_cn) (Nat.le_of_ble_eq_true rfl) dX0_cart_9 ⟨by show _ ≤ (5 : Nat); omega, by show _ ≤ (32 : Nat); omega⟩) (fun e6 G7 H locs hw ho hR hS => ?_) (fun r3 G2 H locs hw hR hS => ?_)
    · rcases hw with hw | hw
      · obtain ⟨hk, hw⟩ := hw
        refine th_catch (ci := 9) (nm := "TitheBarn$Wrong") CF.2.2.2.1 hK hR hk rfl htab [] (⟨4, 15, 16, 3⟩ : ExceptionTableEntry) [(⟨4, 15, 16, 9⟩ : ExceptionTableEntry)] rfl (by intro z hz; cases hz) rfl (by decide) (CF.2.2.2.2 _ q466) q517 ?_
        refine th_astore hx hb dX0_cart_16 hL (by decide) rfl (fun ls hL => ?_)
        refine th_aload_n hx hb dX0_cart_18 rfl (lv_at hL.1 1 rfl) ?_
        refine th_aload hx hb dX0_cart_19 (lv_at hL.1 0 rfl) ?_
        obtain ⟨ho, hw⟩ := hw
        refine th_ki hS (th_rV CF hK hSt hR hS ho (ci := 0) rfl (rest := []) (tk_X0_notDone) (cw_X0_120 CF hK (by decide +kernel)) hw rfl hL.1.1 rfl th_cn (Nat.le_of_ble_eq_true rfl) dX0_cart_21 ⟨by show _ ≤ (5 : Nat); omega, by show _ ≤ (32 : Nat); omega⟩) (fun r9 G8 H locs hw hR hS => ?_)
        exact vz_ret (th_iret hx hb hret hlk hR hS hw (by omega) (by omega) dX0_cart_24)
      · obtain ⟨hk, hw⟩ := hw
        refine th_catch (ci := 10) (nm := "TitheBarn$Refused") CF.2.2.2.1 hK hR hk rfl htab [(⟨4, 15, 16, 3⟩ : ExceptionTableEntry)] (⟨4, 15, 16, 9⟩ : ExceptionTableEntry) [] rfl (by intro z hz; rw [List.mem_singleton.mp hz]; exact Or.inr ⟨by decide, _, CF.2.2.2.2 _ q466, hK.2.2.2.2.1⟩) rfl (by decide) (CF.2.2.2.2 _ q467) q585 ?_
        refine th_astore hx hb dX0_cart_16 hL (by decide) rfl (fun ls hL => ?_)
        refine th_aload_n hx hb dX0_cart_18 rfl (lv_at hL.1 1 rfl) ?_
        refine th_aload hx hb dX0_cart_19 (lv_at hL.1 0 rfl) ?_
        obtain ⟨ho, hw⟩ := hw
        refine th_ki hS (th_rV CF hK hSt hR hS ho (ci := 0) rfl (rest := []) (tk_X0_notDone) (cw_X0_120 CF hK (by decide +kernel)) hw rfl hL.1.1 rfl th_cn (Nat.le_of_ble_eq_true rfl) dX0_cart_21 ⟨by show _ ≤ (5 : Nat); omega, by show _ ≤ (32 : Nat); omega⟩) (fun r11 G10 H locs hw hR hS => ?_)
        exact vz_ret (th_iret hx hb hret hlk hR hS hw (by omega) (by omega) dX0_cart_24)
    · skip
      obtain ⟨ho, hw⟩ := hw
      refine th_ki hS (th_rV CF hK hSt hR hS ho (ci := 0) rfl (rest := []) (tk_X0_changed) (cw_X0_117 CF hK (by decide +kernel)) hw rfl hL.1.1 rfl th_cn (Nat.le_of_ble_eq_true rfl) dX0_cart_12 ⟨by show _ ≤ (5 : Nat); omega, by show _ ≤ (32 : Nat); omega⟩) (fun r5 G4 H locs hw hR hS => ?_)
      exact vz_ret (th_iret hx hb hret hlk hR hS hw (by omega) (by omega) dX0_cart_15))
def tw_X0_doCat_b17 (Q : Int32 → aH → Prop) (X : Nat → aH → Prop) (G : aH) (a0 : Nat) (x1 : Int32) (tx0 : Int32) : Prop :=
  (tw_X0_want
    (fun (G1 : aH) =>
      th_o G1 a0 0 ∧ (
      th_o G1 (a_mr G1 a0 0) 1 ∧ (
      ∀ x2_2 : Int32, x2_2 = a_mi G1 (a_mr G1 a0 0) 6 → 
      th_o G1 a0 0 ∧ (
      th_o G1 (a_mr G1 a0 0) 1 ∧ (
      ∀ G3 : aH, G3 = a_si G1 (a_mr G1 a0 0) 6 x1 → 
      Q (x2_2 + 1) G3)))))
    X
    G tx0 (-1))
def tw_X0_doCat_b12 (Q : Int32 → aH → Prop) (X : Nat → aH → Prop) (G : aH) (a0 : Nat) (x1 : Int32) : Prop :=
  tw_X0_doCat_b17 Q X G a0 x1 1
def tw_X0_doCat (Q : Int32 → aH → Prop) (X : Nat → aH → Prop) (G : aH) (a0 : Nat) (x1 : Int32) : Prop :=
  (x1 = (-1) →
    tw_X0_doCat_b12 Q X G a0 x1) ∧
  (¬ x1 = (-1) →
    (tw_X0_isPlace
      (fun (r5 : Int32) (G4 : aH) =>
        (r5 = 0 →
          tw_X0_doCat_b17 Q X G4 a0 x1 0) ∧
        (¬ r5 = 0 →
          tw_X0_doCat_b12 Q X G4 a0 x1))
      G x1))
theorem tk_X0_doCat_b17 {p : Program} {l : Launch} {e : Env} {s : State} {m : MethodId} {args : Array Value} {below : List Frame} {meth : Method} {c : Code} {D : tD} {B : Nat} (E : th_E p m c cX0_doCat 3 s args RX0 meth ((Option.some Jvm.ClassFile.FieldType.int)) "doCat" D B) (htab : c.exceptionTable.toList = tableOf []) {Q : Int32 → aH → Prop} {X : Nat → aH → Prop} {G : aH} {H : Heap} {locs : List Loc} {cells slots : Nat} {ls : Array Slot} {a0 : Nat} {x1 : Int32} {tx0 : Int32} (hR : th_H D B G H) (hS : va_S (th_A B) s.heap H locs) (hL : th_L ls 3 [(0, rv a0), (1, .int x1)]) (hw : tw_X0_doCat_b17 Q X G a0 x1 tx0) (hc : cells + (1) ≤ 1 ∧ slots + (7) ≤ 7) : W p l e rm_X0_doCat s m args below meth c H locs cells slots (vz_MQ below (th_Qi D B Q) (th_X D B X) args s 1 7 (th_A B)) (F0 m 17 ls [.int tx0]) := by
  have CF := E.1; have hx := CF.1; have hb := CF.2.1; have hret := E.2.1; have hlk := E.2.2.1; have hnm := E.2.2.2.1; have hK := E.2.2.2.2.1; have hSt := E.2.2.2.2.2
  unfold tw_X0_doCat_b17 at hw
  refine lv_iconst hx hb dX0_doCat_17 (v := (-1)) rfl ?_
  refine th_Xkv hS (th_XrS CF hK hSt hR hS (rest := []) (tk_X0_want) (cw_X0_93 CF hK (by decide +kernel)) hw rfl hL.1.1 rfl th_cn (Nat.le_of_ble_eq_true rfl) dX0_doCat_18 ⟨by show _ ≤ (1 : Nat); omega, by show _ ≤ (7 : Nat); omega⟩) (fun e9 G9 H locs hw ho hR hS => ?_) (fun G1 H locs hw hR hS => ?_)
  · exact th_out hK hlk (by rw [htab]; decide) hR hS hw ho (by omega) (by omega)
  · skip
    refine th_aload_n hx hb dX0_doCat_21 rfl (lv_at hL.1 0 rfl) ?_
    obtain ⟨ho, hw⟩ := hw
    refine fg_X0_22 CF hK hR ho dX0_doCat_22 ?_
    obtain ⟨ho, hw⟩ := hw
    refine fg_X0_274 CF hK hR ho dX0_doCat_25 ?_
    obtain ⟨x2_2, hx2_2⟩ : ∃ y : Int32, y = a_mi G1 (a_mr G1 a0 0) 6 := ⟨_, rfl⟩
    replace hw := hw x2_2 hx2_2
    refine th_nmi hx2_2 ?_
    refine th_istore_n hx hb dX0_doCat_28 rfl hL (by decide) rfl (fun ls hL => ?_)
    refine th_aload_n hx hb dX0_doCat_29 rfl (lv_at hL.1 1 rfl) ?_
    obtain ⟨ho, hw⟩ := hw
    refine fg_X0_22 CF hK hR ho dX0_doCat_30 ?_
    refine lv_iload_n hx hb dX0_doCat_33 rfl (lv_at hL.1 2 rfl) ?_
    obtain ⟨ho, hw⟩ := hw
    refine fp_X0_274 CF hK hR hS ho dX0_doCat_34 (fun G3 H locs hG hR hS => ?_)
    replace hw := hw G3 hG
    refine lv_iload_n hx hb dX0_doCat_37 rfl (lv_at hL.1 0 rfl) ?_
    refine lv_iconst hx hb dX0_doCat_38 (v := 1) rfl ?_
    refine lv_iadd hx hb dX0_doCat_39 ?_
    exact vz_ret (th_iret hx hb hret hlk hR hS hw (by omega) (by omega) dX0_doCat_40)
theorem tk_X0_doCat_b12 {p : Program} {l : Launch} {e : Env} {s : State} {m : MethodId} {args : Array Value} {below : List Frame} {meth : Method} {c : Code} {D : tD} {B : Nat} (E : th_E p m c cX0_doCat 3 s args RX0 meth ((Option.some Jvm.ClassFile.FieldType.int)) "doCat" D B) (htab : c.exceptionTable.toList = tableOf []) {Q : Int32 → aH → Prop} {X : Nat → aH → Prop} {G : aH} {H : Heap} {locs : List Loc} {cells slots : Nat} {ls : Array Slot} {a0 : Nat} {x1 : Int32} (hR : th_H D B G H) (hS : va_S (th_A B) s.heap H locs) (hL : th_L ls 3 [(0, rv a0), (1, .int x1)]) (hw : tw_X0_doCat_b12 Q X G a0 x1) (hc : cells + (1) ≤ 1 ∧ slots + (7) ≤ 7) : W p l e rm_X0_doCat s m args below meth c H locs cells slots (vz_MQ below (th_Qi D B Q) (th_X D B X) args s 1 7 (th_A B)) (F0 m 12 ls []) := by
  have CF := E.1; have hx := CF.1; have hb := CF.2.1; have hret := E.2.1; have hlk := E.2.2.1; have hnm := E.2.2.2.1; have hK := E.2.2.2.2.1; have hSt := E.2.2.2.2.2
  unfold tw_X0_doCat_b12 at hw
  refine lv_iconst hx hb dX0_doCat_12 (v := 1) rfl ?_
  refine lv_goto hx hb dX0_doCat_13 (tgt := 17) (by decide) ?_
  exact tk_X0_doCat_b17 E htab hR hS (hL.sub [0, 1] rfl) hw ⟨by omega, by omega⟩
theorem tk_X0_doCat {l : Launch} {D : tD} {B : Nat} {Q : Int32 → aH → Prop} {X : Nat → aH → Prop} {a0 : Nat} {x1 : Int32} : vz_Met l yX0_doCat (ws_ yX0_doCat cX0_doCat 3 ((Option.some Jvm.ClassFile.FieldType.int))) rm_X0_doCat (th_P D B [rv a0, .int x1] (fun G => tw_X0_doCat Q X G a0 x1)) (th_Qi D B Q) (th_X D B X) 1 7 (th_A B) :=
  th_ofX (by decide +kernel) (th_cr (th_ci th_cn)) (Nat.le_of_ble_eq_true rfl) (fun p e s m args below meth c CF hret hlk hnm htab0 hK hSt G ls hR hS hw hL => by
    have E : th_E p m c cX0_doCat 3 s args RX0 meth ((Option.some Jvm.ClassFile.FieldType.int)) "doCat" D B := ⟨CF, hret, hlk, hnm, hK, hSt⟩
    have htab : c.exceptionTable.toList = tableOf [] := th_notab htab0
    have hx := CF.1; have hb := CF.2.1
    have hL : th_L ls 3 [(0, rv a0), (1, .int x1)] := hL
    unfold tw_X0_doCat at hw
    refine lv_iload_n hx hb dX0_doCat_0 rfl (lv_at hL.1 1 rfl) ?_
    refine lv_iconst hx hb dX0_doCat_1 (v := (-1)) rfl ?_
    refine lv_icmp_eq hx hb dX0_doCat_2 (tgt := 12) (by decide) (fun h => ?_) (fun h => ?_)
    · replace hw := hw.1 h
      exact tk_X0_doCat_b12 E htab hR hS (hL.sub [0, 1] rfl) hw ⟨by omega, by omega⟩
    · replace hw := hw.2 h
      refine lv_iload_n hx hb dX0_doCat_5 rfl (lv_at hL.1 1 rfl) ?_
      refine th_ki hS (th_rS CF hK hSt hR hS (rest := []) (tk_X0_isPlace) (cw_X0_265 CF hK (by decide +kernel)) hw rfl hL.1.1 rfl th_cn (Nat.le_of_ble_eq_true rfl) dX0_doCat_6 ⟨by show _ ≤ (1 : Nat); omega, by show _ ≤ (7 : Nat); omega⟩) (fun r5 G4 H locs hw hR hS => ?_)
      refine lv_if_eq hx hb dX0_doCat_9 (tgt := 16) (by decide) (fun h => ?_) (fun h => ?_)
      · replace hw := hw.1 h
        refine lv_iconst hx hb dX0_doCat_16 (v := 0) rfl ?_
        exact tk_X0_doCat_b17 E htab hR hS (hL.sub [0, 1] rfl) hw ⟨by omega, by omega⟩
      · replace hw := hw.2 h
        exact tk_X0_doCat_b12 E htab hR hS (hL.sub [0, 1] rfl) hw ⟨by omega, by omega⟩)
def tw_X0_cat (Q : Int32 → aH → Prop) (G : aH) (a0 : Nat) (x1 : Int32) : Prop :=
  th_o G a0 0 ∧ (
  (tw_X0_begins
    (fun (G1 : aH) =>
      th_o G1 a0 0 ∧ (
      (tw_X0_doCat
        (fun (r3 : Int32) (G2 : aH) =>
          th_o G2 a0 0 ∧ (
          (tw_X0_changed
            (fun (r5 : Int32) (G4 : aH) =>
              Q r5 G4)
            G2 a0 r3)))
        (fun (e6 : Nat) (G7 : aH) =>
          (th_o G7 e6 9 ∧ (
            th_o G7 a0 0 ∧ (
            (tw_X0_notDone
              (fun (r9 : Int32) (G8 : aH) =>
                Q r9 G8)
              G7 a0 e6)))))
        G1 a0 x1)))
    G a0))
theorem tk_X0_cat {l : Launch} {D : tD} {B : Nat} {Q : Int32 → aH → Prop} {a0 : Nat} {x1 : Int32} : vz_Met l yX0_cat (wsW_ yX0_cat cX0_cat 3 ((Option.some Jvm.ClassFile.FieldType.int)) [((4 : Nat), (13 : Nat), (14 : Nat), (3 : Nat))]) rm_X0_cat (th_P D B [rv a0, .int x1] (fun G => tw_X0_cat Q G a0 x1)) (th_Qi D B Q) (th_X D B (fun _ _ => False)) 1 7 (th_A B) :=
  th_ofXH (by decide +kernel) (th_cr (th_ci th_cn)) (Nat.le_of_ble_eq_true rfl) (fun p e s m args below meth c CF hret hlk hnm htab0 hK hSt G ls hR hS hw hL => by
    have E : th_E p m c cX0_cat 3 s args RX0 meth ((Option.some Jvm.ClassFile.FieldType.int)) "cat" D B := ⟨CF, hret, hlk, hnm, hK, hSt⟩
    have htab : c.exceptionTable.toList = tableOf [((4 : Nat), (13 : Nat), (14 : Nat), (3 : Nat))] := htab0
    have hx := CF.1; have hb := CF.2.1
    have hL : th_L ls 3 [(0, rv a0), (1, .int x1)] := hL
    unfold tw_X0_cat at hw
    refine th_aload_n hx hb dX0_cat_0 rfl (lv_at hL.1 0 rfl) ?_
    obtain ⟨ho, hw⟩ := hw
    refine th_kv hS (th_rV CF hK hSt hR hS ho (ci := 0) rfl (rest := []) (tk_X0_begins) (cw_X0_110 CF hK (by decide +kernel)) hw rfl hL.1.1 rfl th_cn (Nat.le_of_ble_eq_true rfl) dX0_cat_1 ⟨by show _ ≤ (1 : Nat); omega, by show _ ≤ (7 : Nat); omega⟩) (fun G1 H locs hw hR hS => ?_)
    refine th_aload_n hx hb dX0_cat_4 rfl (lv_at hL.1 0 rfl) ?_
    refine th_aload_n hx hb dX0_cat_5 rfl (lv_at hL.1 0 rfl) ?_
    refine lv_iload_n hx hb dX0_cat_6 rfl (lv_at hL.1 1 rfl) ?_
    obtain ⟨ho, hw⟩ := hw
    refine th_Xki hS (th_XrV CF hK hSt hR hS ho (ci := 0) rfl (rest := [rv a0]) (tk_X0_doCat) (cw_X0_277 CF hK (by decide +kernel)) hw rfl hL.1.1 rfl (th_cr th_cn) (Nat.le_of_ble_eq_true rfl) dX0_cat_7 ⟨by show _ ≤ (1 : Nat); omega, by show _ ≤ (7 : Nat); omega⟩) (fun e6 G7 H locs hw ho hR hS => ?_) (fun r3 G2 H locs hw hR hS => ?_)
    · obtain ⟨hk, hw⟩ := hw
      refine th_catch (ci := 9) (nm := "TitheBarn$Wrong") CF.2.2.2.1 hK hR hk rfl htab [] (⟨4, 13, 14, 3⟩ : ExceptionTableEntry) [] rfl (by intro z hz; cases hz) rfl (by decide) (CF.2.2.2.2 _ q466) q517 ?_
      refine th_astore_n hx hb dX0_cat_14 rfl hL (by decide) rfl (fun ls hL => ?_)
      refine th_aload_n hx hb dX0_cat_15 rfl (lv_at hL.1 1 rfl) ?_
      refine th_aload_n hx hb dX0_cat_16 rfl (lv_at hL.1 0 rfl) ?_
      obtain ⟨ho, hw⟩ := hw
      refine th_ki hS (th_rV CF hK hSt hR hS ho (ci := 0) rfl (rest := []) (tk_X0_notDone) (cw_X0_120 CF hK (by decide +kernel)) hw rfl hL.1.1 rfl th_cn (Nat.le_of_ble_eq_true rfl) dX0_cat_17 ⟨by show _ ≤ (1 : Nat); omega, by show _ ≤ (7 : Nat); omega⟩) (fun r9 G8 H locs hw hR hS => ?_)
      exact vz_ret (th_iret hx hb hret hlk hR hS hw (by omega) (by omega) dX0_cat_20)
    · skip
      obtain ⟨ho, hw⟩ := hw
      refine th_ki hS (th_rV CF hK hSt hR hS ho (ci := 0) rfl (rest := []) (tk_X0_changed) (cw_X0_117 CF hK (by decide +kernel)) hw rfl hL.1.1 rfl th_cn (Nat.le_of_ble_eq_true rfl) dX0_cat_10 ⟨by show _ ≤ (1 : Nat); omega, by show _ ≤ (7 : Nat); omega⟩) (fun r5 G4 H locs hw hR hS => ?_)
      exact vz_ret (th_iret hx hb hret hlk hR hS hw (by omega) (by omega) dX0_cat_13))
def tw_X3_clear (Q : aH → Prop) (G : aH) (a0 : Nat) : Prop :=
  th_o G a0 3 ∧ (
  ∀ G1 : aH, G1 = a_si G a0 1 0 → 
  th_o G1 a0 3 ∧ (
  ∀ G2 : aH, G2 = a_si G1 a0 2 0 → 
  Q G2))
theorem tk_X3_clear {l : Launch} {D : tD} {B : Nat} {Q : aH → Prop} {a0 : Nat} : Met l yX3_clear (ws_ yX3_clear cX3_clear 1 ((Option.none : Option Jvm.ClassFile.FieldType))) rm_X3_clear (th_P D B [rv a0] (fun G => tw_X3_clear Q G a0)) (th_Qv D B Q) 0 0 (th_A B) :=
  th_ofW (by decide +kernel) (th_cr th_cn) (Nat.le_of_ble_eq_true rfl) (fun p e s m args below meth c CF hret hlk hnm hK hSt G ls hR hS hw hL => by
    have E : th_E p m c cX3_clear 1 s args RX3 meth ((Option.none : Option Jvm.ClassFile.FieldType)) "clear" D B := ⟨CF, hret, hlk, hnm, hK, hSt⟩
    have hx := CF.1; have hb := CF.2.1
    have hL : th_L ls 1 [(0, rv a0)] := hL
    unfold tw_X3_clear at hw
    refine th_aload_n hx hb dX3_clear_0 rfl (lv_at hL.1 0 rfl) ?_
    refine lv_iconst hx hb dX3_clear_1 (v := 0) rfl ?_
    obtain ⟨ho, hw⟩ := hw
    refine fp_X3_23 CF hK hR hS ho dX3_clear_2 (fun G1 H locs hG hR hS => ?_)
    replace hw := hw G1 hG
    refine th_aload_n hx hb dX3_clear_5 rfl (lv_at hL.1 0 rfl) ?_
    refine lv_iconst hx hb dX3_clear_6 (v := 0) rfl ?_
    obtain ⟨ho, hw⟩ := hw
    refine fp_X3_27 CF hK hR hS ho dX3_clear_7 (fun G2 H locs hG hR hS => ?_)
    replace hw := hw G2 hG
    exact th_vret hx hb hret hlk hR hS hw (by omega) (by omega) dX3_clear_10)
def tw_X5_clear (Q : aH → Prop) (G : aH) (a0 : Nat) : Prop :=
  th_o G a0 5 ∧ (
  ∀ G1 : aH, G1 = a_si G a0 0 0 → 
  th_o G1 a0 5 ∧ (
  ∀ G2 : aH, G2 = a_si G1 a0 1 0 → 
  th_o G2 a0 5 ∧ (
  ∀ G3 : aH, G3 = a_si G2 a0 2 2 → 
  th_o G3 a0 5 ∧ (
  ∀ G4 : aH, G4 = a_si G3 a0 3 0 → 
  Q G4))))
theorem tk_X5_clear {l : Launch} {D : tD} {B : Nat} {Q : aH → Prop} {a0 : Nat} : Met l yX5_clear (ws_ yX5_clear cX5_clear 1 ((Option.none : Option Jvm.ClassFile.FieldType))) rm_X5_clear (th_P D B [rv a0] (fun G => tw_X5_clear Q G a0)) (th_Qv D B Q) 0 0 (th_A B) :=
  th_ofW (by decide +kernel) (th_cr th_cn) (Nat.le_of_ble_eq_true rfl) (fun p e s m args below meth c CF hret hlk hnm hK hSt G ls hR hS hw hL => by
    have E : th_E p m c cX5_clear 1 s args RX5 meth ((Option.none : Option Jvm.ClassFile.FieldType)) "clear" D B := ⟨CF, hret, hlk, hnm, hK, hSt⟩
    have hx := CF.1; have hb := CF.2.1
    have hL : th_L ls 1 [(0, rv a0)] := hL
    unfold tw_X5_clear at hw
    refine th_aload_n hx hb dX5_clear_0 rfl (lv_at hL.1 0 rfl) ?_
    refine lv_iconst hx hb dX5_clear_1 (v := 0) rfl ?_
    obtain ⟨ho, hw⟩ := hw
    refine fp_X5_13 CF hK hR hS ho dX5_clear_2 (fun G1 H locs hG hR hS => ?_)
    replace hw := hw G1 hG
    refine th_aload_n hx hb dX5_clear_5 rfl (lv_at hL.1 0 rfl) ?_
    refine lv_iconst hx hb dX5_clear_6 (v := 0) rfl ?_
    obtain ⟨ho, hw⟩ := hw
    refine fp_X5_16 CF hK hR hS ho dX5_clear_7 (fun G2 H locs hG hR hS => ?_)
    replace hw := hw G2 hG
    refine th_aload_n hx hb dX5_clear_10 rfl (lv_at hL.1 0 rfl) ?_
    refine lv_iconst hx hb dX5_clear_11 (v := 2) rfl ?_
    obtain ⟨ho, hw⟩ := hw
    refine fp_X5_7 CF hK hR hS ho dX5_clear_12 (fun G3 H locs hG hR hS => ?_)
    replace hw := hw G3 hG
    refine th_aload_n hx hb dX5_clear_15 rfl (lv_at hL.1 0 rfl) ?_
    refine lv_iconst hx hb dX5_clear_16 (v := 0) rfl ?_
    obtain ⟨ho, hw⟩ := hw
    refine fp_X5_19 CF hK hR hS ho dX5_clear_17 (fun G4 H locs hG hR hS => ?_)
    replace hw := hw G4 hG
    exact th_vret hx hb hret hlk hR hS hw (by omega) (by omega) dX5_clear_20)
def tw_X6_clear (Q : aH → Prop) (G : aH) (a0 : Nat) : Prop :=
  th_o G a0 6 ∧ (
  ∀ G1 : aH, G1 = a_si G a0 0 0 → 
  th_o G1 a0 6 ∧ (
  ∀ G2 : aH, G2 = a_si G1 a0 1 10 → 
  th_o G2 a0 6 ∧ (
  ∀ G3 : aH, G3 = a_si G2 a0 2 0 → 
  th_o G3 a0 6 ∧ (
  ∀ G4 : aH, G4 = a_si G3 a0 3 0 → 
  th_o G4 a0 6 ∧ (
  ∀ G5 : aH, G5 = a_si G4 a0 4 0 → 
  Q G5)))))
theorem tk_X6_clear {l : Launch} {D : tD} {B : Nat} {Q : aH → Prop} {a0 : Nat} : Met l yX6_clear (ws_ yX6_clear cX6_clear 1 ((Option.none : Option Jvm.ClassFile.FieldType))) rm_X6_clear (th_P D B [rv a0] (fun G => tw_X6_clear Q G a0)) (th_Qv D B Q) 0 0 (th_A B) :=
  th_ofW (by decide +kernel) (th_cr th_cn) (Nat.le_of_ble_eq_true rfl) (fun p e s m args below meth c CF hret hlk hnm hK hSt G ls hR hS hw hL => by
    have E : th_E p m c cX6_clear 1 s args RX6 meth ((Option.none : Option Jvm.ClassFile.FieldType)) "clear" D B := ⟨CF, hret, hlk, hnm, hK, hSt⟩
    have hx := CF.1; have hb := CF.2.1
    have hL : th_L ls 1 [(0, rv a0)] := hL
    unfold tw_X6_clear at hw
    refine th_aload_n hx hb dX6_clear_0 rfl (lv_at hL.1 0 rfl) ?_
    refine lv_iconst hx hb dX6_clear_1 (v := 0) rfl ?_
    obtain ⟨ho, hw⟩ := hw
    refine fp_X6_13 CF hK hR hS ho dX6_clear_2 (fun G1 H locs hG hR hS => ?_)
    replace hw := hw G1 hG
    refine th_aload_n hx hb dX6_clear_5 rfl (lv_at hL.1 0 rfl) ?_
    refine lv_bipush hx hb dX6_clear_6 (v := 10) rfl ?_
    obtain ⟨ho, hw⟩ := hw
    refine fp_X6_7 CF hK hR hS ho dX6_clear_8 (fun G2 H locs hG hR hS => ?_)
    replace hw := hw G2 hG
    refine th_aload_n hx hb dX6_clear_11 rfl (lv_at hL.1 0 rfl) ?_
    refine lv_iconst hx hb dX6_clear_12 (v := 0) rfl ?_
    obtain ⟨ho, hw⟩ := hw
    refine fp_X6_16 CF hK hR hS ho dX6_clear_13 (fun G3 H locs hG hR hS => ?_)
    replace hw := hw G3 hG
    refine th_aload_n hx hb dX6_clear_16 rfl (lv_at hL.1 0 rfl) ?_
    refine lv_iconst hx hb dX6_clear_17 (v := 0) rfl ?_
    obtain ⟨ho, hw⟩ := hw
    refine fp_X6_19 CF hK hR hS ho dX6_clear_18 (fun G4 H locs hG hR hS => ?_)
    replace hw := hw G4 hG
    refine th_aload_n hx hb dX6_clear_21 rfl (lv_at hL.1 0 rfl) ?_
    refine lv_iconst hx hb dX6_clear_22 (v := 0) rfl ?_
    obtain ⟨ho, hw⟩ := hw
    refine fp_X6_22 CF hK hR hS ho dX6_clear_23 (fun G5 H locs hG hR hS => ?_)
    replace hw := hw G5 hG
    exact th_vret hx hb hret hlk hR hS hw (by omega) (by omega) dX6_clear_26)
