/-! WALKS: X0_within X0_isParish X2_due X20_init X3_iterator X20_hasNext X20_next_2 X20_next X0_inBays X0_isAhead X0_rankOf X0_parishOf X0_overParishes X0_isKind X0_binOf X0_overBins X0_isPlace X0_placeOf X0_overPlaces -/
set_option maxRecDepth 100000
def tw_X0_within (Q : Int32 → aH → Prop) (G : aH) (x0 : Int32) (x1 : Int32) (x2 : Int32) : Prop :=
  (x0 < x1 →
    Q 0 G) ∧
  (¬ x0 < x1 →
    (x2 < x0 →
      Q 0 G) ∧
    (¬ x2 < x0 →
      Q 1 G))
theorem tk_X0_within {l : Launch} {D : tD} {B : Nat} {Q : Int32 → aH → Prop} {x0 : Int32} {x1 : Int32} {x2 : Int32} : Met l yX0_within (ws_ yX0_within cX0_within 3 ((Option.some Jvm.ClassFile.FieldType.boolean))) rm_X0_within (th_P D B [.int x0, .int x1, .int x2] (fun G => tw_X0_within Q G x0 x1 x2)) (th_Qi D B Q) 0 0 (th_A B) :=
  th_ofW (by decide +kernel) (th_ci (th_ci (th_ci th_cn))) (Nat.le_of_ble_eq_true rfl) (fun p e s m args below meth c CF hret hlk hnm hK hSt G ls hR hS hw hL => by
    have E : th_E p m c cX0_within 3 s args RX0 meth ((Option.some Jvm.ClassFile.FieldType.boolean)) "within" D B := ⟨CF, hret, hlk, hnm, hK, hSt⟩
    have hx := CF.1; have hb := CF.2.1
    have hL : th_L ls 3 [(0, .int x0), (1, .int x1), (2, .int x2)] := hL
    unfold tw_X0_within at hw
    refine lv_iload_n hx hb dX0_within_0 rfl (lv_at hL.1 0 rfl) ?_
    refine lv_iload_n hx hb dX0_within_1 rfl (lv_at hL.1 1 rfl) ?_
    refine lv_icmp_lt hx hb dX0_within_2 (tgt := 14) (by decide) (fun h => ?_) (fun h => ?_)
    · replace hw := hw.1 h
      refine lv_iconst hx hb dX0_within_14 (v := 0) rfl ?_
      exact th_zret .boolean hx hb hret rfl hlk hR hS hw (by omega) (by omega) dX0_within_15
    · replace hw := hw.2 h
      refine lv_iload_n hx hb dX0_within_5 rfl (lv_at hL.1 0 rfl) ?_
      refine lv_iload_n hx hb dX0_within_6 rfl (lv_at hL.1 2 rfl) ?_
      refine lv_icmp_gt hx hb dX0_within_7 (tgt := 14) (by decide) (fun h => ?_) (fun h => ?_)
      · replace hw := hw.1 h
        refine lv_iconst hx hb dX0_within_14 (v := 0) rfl ?_
        exact th_zret .boolean hx hb hret rfl hlk hR hS hw (by omega) (by omega) dX0_within_15
      · replace hw := hw.2 h
        refine lv_iconst hx hb dX0_within_10 (v := 1) rfl ?_
        refine lv_goto hx hb dX0_within_11 (tgt := 15) (by decide) ?_
        exact th_zret .boolean hx hb hret rfl hlk hR hS hw (by omega) (by omega) dX0_within_15)
def tw_X0_isParish (Q : Int32 → aH → Prop) (G : aH) (a0 : Nat) (x1 : Int32) : Prop :=
  th_o G a0 0 ∧ (
  th_o G (a_mr G a0 0) 1 ∧ (
  (tw_X0_within
    (fun (r2 : Int32) (G1 : aH) =>
      narrow .boolean (.int r2) = .int r2 ∧ Q r2 G1)
    G x1 0 ((a_mi G (a_mr G a0 0) 1) - 1))))
theorem tk_X0_isParish {l : Launch} {D : tD} {B : Nat} {Q : Int32 → aH → Prop} {a0 : Nat} {x1 : Int32} : Met l yX0_isParish (ws_ yX0_isParish cX0_isParish 2 ((Option.some Jvm.ClassFile.FieldType.boolean))) rm_X0_isParish (th_P D B [rv a0, .int x1] (fun G => tw_X0_isParish Q G a0 x1)) (th_Qi D B Q) 0 0 (th_A B) :=
  th_ofW (by decide +kernel) (th_cr (th_ci th_cn)) (Nat.le_of_ble_eq_true rfl) (fun p e s m args below meth c CF hret hlk hnm hK hSt G ls hR hS hw hL => by
    have E : th_E p m c cX0_isParish 2 s args RX0 meth ((Option.some Jvm.ClassFile.FieldType.boolean)) "isParish" D B := ⟨CF, hret, hlk, hnm, hK, hSt⟩
    have hx := CF.1; have hb := CF.2.1
    have hL : th_L ls 2 [(0, rv a0), (1, .int x1)] := hL
    unfold tw_X0_isParish at hw
    refine lv_iload_n hx hb dX0_isParish_0 rfl (lv_at hL.1 1 rfl) ?_
    refine lv_iconst hx hb dX0_isParish_1 (v := 0) rfl ?_
    refine th_aload_n hx hb dX0_isParish_2 rfl (lv_at hL.1 0 rfl) ?_
    obtain ⟨ho, hw⟩ := hw
    refine fg_X0_22 CF hK hR ho dX0_isParish_3 ?_
    obtain ⟨ho, hw⟩ := hw
    refine fg_X0_79 CF hK hR ho dX0_isParish_6 ?_
    refine lv_iconst hx hb dX0_isParish_9 (v := 1) rfl ?_
    refine lv_isub hx hb dX0_isParish_10 ?_
    refine th_ki hS (th_rS CF hK hSt hR hS (rest := []) (tk_X0_within) (cw_X0_82 CF hK (by decide +kernel)) hw rfl hL.1.1 rfl th_cn (Nat.le_of_ble_eq_true rfl) dX0_isParish_11 ⟨by show _ ≤ (0 : Nat); omega, by show _ ≤ (0 : Nat); omega⟩) (fun r2 G1 H locs hw hR hS => ?_)
    exact th_zret .boolean hx hb hret hw.1 hlk hR hS hw.2 (by omega) (by omega) dX0_isParish_14)
def tw_X2_due_b4 (Q : Int32 → aH → Prop) : Nat → aH → Nat → Int32 → Int32 → Prop := fun n => Nat.rec (motive := fun _ => aH → Nat → Int32 → Int32 → Prop) (fun _ _ _ _ => False) (fun _ ih G a0 x1 x2 =>
  th_o G a0 2 ∧ (
  (a_mi G a0 6 ≤ x2 →
    Q x1 G) ∧
  (¬ a_mi G a0 6 ≤ x2 →
    th_o G a0 2 ∧ (
    th_ai G (a_mr G a0 5) 0 x2 ∧ (
    ∀ x1_1 : Int32, x1_1 = x1 + (a_mi G (a_mr G a0 5) x2.toNatClampNeg) → 
    ∀ x2_2 : Int32, x2_2 = x2 + 1 → 
    ih G a0 x1_1 x2_2))))) n
theorem tws_X2_due_b4 (Q : Int32 → aH → Prop) (n : Nat) (G : aH) (a0 : Nat) (x1 : Int32) (x2 : Int32) : tw_X2_due_b4 Q (n + 1) G a0 x1 x2 = (
  th_o G a0 2 ∧ (
  (a_mi G a0 6 ≤ x2 →
    Q x1 G) ∧
  (¬ a_mi G a0 6 ≤ x2 →
    th_o G a0 2 ∧ (
    th_ai G (a_mr G a0 5) 0 x2 ∧ (
    ∀ x1_1 : Int32, x1_1 = x1 + (a_mi G (a_mr G a0 5) x2.toNatClampNeg) → 
    ∀ x2_2 : Int32, x2_2 = x2 + 1 → 
    tw_X2_due_b4 Q n G a0 x1_1 x2_2))))) := rfl
def tw_X2_due (Q : Int32 → aH → Prop) (G : aH) (a0 : Nat) : Prop :=
  ∃ n9 : Nat, tw_X2_due_b4 Q n9 G a0 0 0
theorem tk_X2_due_b4 {p : Program} {l : Launch} {e : Env} {s : State} {m : MethodId} {args : Array Value} {below : List Frame} {meth : Method} {c : Code} {D : tD} {B : Nat} (E : th_E p m c cX2_due 3 s args RX2 meth ((Option.some Jvm.ClassFile.FieldType.int)) "due" D B) {Q : Int32 → aH → Prop} : ∀ (n : Nat) {G : aH} {H : Heap} {locs : List Loc} {cells slots : Nat} {ls : Array Slot} {a0 : Nat} {x1 : Int32} {x2 : Int32} (hR : th_H D B G H) (hS : va_S (th_A B) s.heap H locs) (hL : th_L ls 3 [(0, rv a0), (1, .int x1), (2, .int x2)]) (hw : tw_X2_due_b4 Q n G a0 x1 x2) (hc : cells + (0) ≤ 0 ∧ slots + (0) ≤ 0), W p l e rm_X2_due s m args below meth c H locs cells slots (MQ below (th_Qi D B Q) args s 0 0 (th_A B)) (F0 m 4 ls []) := by
  have CF := E.1; have hx := CF.1; have hb := CF.2.1; have hret := E.2.1; have hlk := E.2.2.1; have hnm := E.2.2.2.1; have hK := E.2.2.2.2.1; have hSt := E.2.2.2.2.2
  intro n
  induction n with
  | zero => intro _ _ _ _ _ _ _ _ _ _ _ _ hw; exact hw.elim
  | succ n ih =>
    intro G H locs cells slots ls a0 x1 x2 hR hS hL hw hc
    rw [tws_X2_due_b4] at hw
    refine lv_iload_n hx hb dX2_due_4 rfl (lv_at hL.1 2 rfl) ?_
    refine th_aload_n hx hb dX2_due_5 rfl (lv_at hL.1 0 rfl) ?_
    obtain ⟨ho, hw⟩ := hw
    refine fg_X2_31 CF hK hR ho dX2_due_6 ?_
    refine lv_icmp_ge hx hb dX2_due_9 (tgt := 27) (by decide) (fun h => ?_) (fun h => ?_)
    · replace hw := hw.1 h
      refine lv_iload_n hx hb dX2_due_27 rfl (lv_at hL.1 1 rfl) ?_
      exact th_iret hx hb hret hlk hR hS hw (by omega) (by omega) dX2_due_28
    · replace hw := hw.2 h
      refine lv_iload_n hx hb dX2_due_12 rfl (lv_at hL.1 1 rfl) ?_
      refine th_aload_n hx hb dX2_due_13 rfl (lv_at hL.1 0 rfl) ?_
      obtain ⟨ho, hw⟩ := hw
      refine fg_X2_15 CF hK hR ho dX2_due_14 ?_
      refine lv_iload_n hx hb dX2_due_17 rfl (lv_at hL.1 2 rfl) ?_
      obtain ⟨ha, hw⟩ := hw
      refine th_iald hx hb hK hR ha dX2_due_18 ?_
      refine lv_iadd hx hb dX2_due_19 ?_
      obtain ⟨x1_1, hx1_1⟩ : ∃ y : Int32, y = x1 + (a_mi G (a_mr G a0 5) x2.toNatClampNeg) := ⟨_, rfl⟩
      replace hw := hw x1_1 hx1_1
      refine th_nmi hx1_1 ?_
      refine th_istore_n hx hb dX2_due_20 rfl hL (by decide) rfl (fun ls hL => ?_)
      obtain ⟨x2_2, hx2_2⟩ : ∃ y : Int32, y = x2 + 1 := ⟨_, rfl⟩
      replace hw := hw x2_2 hx2_2
      refine th_iinc hx hb dX2_due_21 hL (k := 2) rfl (v := x2_2) hx2_2.symm (by decide) rfl (fun ls hL => ?_)
      refine lv_goto hx hb dX2_due_24 (tgt := 4) (by decide) ?_
      exact ih hR hS (hL.sub [2, 1, 0] rfl) hw ⟨by omega, by omega⟩
theorem tk_X2_due {l : Launch} {D : tD} {B : Nat} {Q : Int32 → aH → Prop} {a0 : Nat} : Met l yX2_due (ws_ yX2_due cX2_due 3 ((Option.some Jvm.ClassFile.FieldType.int))) rm_X2_due (th_P D B [rv a0] (fun G => tw_X2_due Q G a0)) (th_Qi D B Q) 0 0 (th_A B) :=
  th_ofW (by decide +kernel) (th_cr th_cn) (Nat.le_of_ble_eq_true rfl) (fun p e s m args below meth c CF hret hlk hnm hK hSt G ls hR hS hw hL => by
    have E : th_E p m c cX2_due 3 s args RX2 meth ((Option.some Jvm.ClassFile.FieldType.int)) "due" D B := ⟨CF, hret, hlk, hnm, hK, hSt⟩
    have hx := CF.1; have hb := CF.2.1
    have hL : th_L ls 3 [(0, rv a0)] := hL
    unfold tw_X2_due at hw
    refine lv_iconst hx hb dX2_due_0 (v := 0) rfl ?_
    refine th_istore_n hx hb dX2_due_1 rfl hL (by decide) rfl (fun ls hL => ?_)
    refine lv_iconst hx hb dX2_due_2 (v := 0) rfl ?_
    refine th_istore_n hx hb dX2_due_3 rfl hL (by decide) rfl (fun ls hL => ?_)
    obtain ⟨n9, hw⟩ := hw
    exact tk_X2_due_b4 E n9 hR hS (hL.sub [2, 1, 0] rfl) hw ⟨by omega, by omega⟩)
def tw_X20_init (Q : aH → Prop) (G : aH) (a0 : Nat) (a1 : Nat) : Prop :=
  th_o G a0 20 ∧ (
  ∀ G1 : aH, G1 = a_sr G a0 1 a1 → 
  (a_sh G1 a0).1 ≠ 0 ∧ (
  Q G1))
theorem tk_X20_init {l : Launch} {D : tD} {B : Nat} {Q : aH → Prop} {a0 : Nat} {a1 : Nat} : Met l yX20_init (ws_ yX20_init cX20_init 2 ((Option.none : Option Jvm.ClassFile.FieldType))) rm_X20_init (th_P D B [rv a0, rv a1] (fun G => tw_X20_init Q G a0 a1)) (th_Qv D B Q) 0 0 (th_A B) :=
  th_ofW (by decide +kernel) (th_cr (th_cr th_cn)) (Nat.le_of_ble_eq_true rfl) (fun p e s m args below meth c CF hret hlk hnm hK hSt G ls hR hS hw hL => by
    have E : th_E p m c cX20_init 2 s args RX20 meth ((Option.none : Option Jvm.ClassFile.FieldType)) "<init>" D B := ⟨CF, hret, hlk, hnm, hK, hSt⟩
    have hx := CF.1; have hb := CF.2.1
    have hL : th_L ls 2 [(0, rv a0), (1, rv a1)] := hL
    unfold tw_X20_init at hw
    refine th_aload_n hx hb dX20_init_0 rfl (lv_at hL.1 0 rfl) ?_
    refine th_aload_n hx hb dX20_init_1 rfl (lv_at hL.1 1 rfl) ?_
    obtain ⟨ho, hw⟩ := hw
    refine fp_X20_1 CF hK hR hS hnm ho dX20_init_2 (fun G1 H locs hG hR hS => ?_)
    replace hw := hw G1 hG
    refine th_aload_n hx hb dX20_init_5 rfl (lv_at hL.1 0 rfl) ?_
    obtain ⟨h0, hw⟩ := hw
    refine th_objInit hx hb CF.2.2.2.1 (CF.2.2.2.2 _ q1198) (CF.2.2.2.2 _ q148) (CF.2.2.2.2 _ q149) (hL.1.1.trans CF.2.2.1.symm) hR h0 th_cn (Nat.le_of_ble_eq_true rfl) (by decide) (by decide) dX20_init_6 ?_
    exact th_vret hx hb hret hlk hR hS hw (by omega) (by omega) dX20_init_9)
def tw_X3_iterator (Q : Nat → aH → Prop) (G : aH) (a0 : Nat) : Prop :=
  ∀ z1 : Nat, z1 = a_sz G → ∀ G2 : aH, G2 = a_nw G (20 + 1) 0 → 
  (a_sh G2 z1).1 ≠ 0 ∧ (
  (tw_X20_init
    (fun (G3 : aH) =>
      Q z1 G3)
    G2 z1 a0))
theorem tk_X3_iterator {l : Launch} {D : tD} {B : Nat} {Q : Nat → aH → Prop} {a0 : Nat} : Met l yX3_iterator (ws_ yX3_iterator cX3_iterator 1 ((Option.some (Jvm.ClassFile.FieldType.object "java/util/Iterator")))) rm_X3_iterator (th_P D B [rv a0] (fun G => tw_X3_iterator Q G a0)) (th_Qr D B Q) 1 2 (th_A B) :=
  th_ofW (by decide +kernel) (th_cr th_cn) (Nat.le_of_ble_eq_true rfl) (fun p e s m args below meth c CF hret hlk hnm hK hSt G ls hR hS hw hL => by
    have E : th_E p m c cX3_iterator 1 s args RX3 meth ((Option.some (Jvm.ClassFile.FieldType.object "java/util/Iterator"))) "iterator" D B := ⟨CF, hret, hlk, hnm, hK, hSt⟩
    have hx := CF.1; have hb := CF.2.1
    have hL : th_L ls 1 [(0, rv a0)] := hL
    unfold tw_X3_iterator at hw
    refine fn_X3_18 CF hK hR hS (by show _ ≤ (1 : Nat); omega) (by show _ ≤ (2 : Nat); omega) dX3_iterator_0 (fun z1 G2 H hz hG hR hS => ?_)
    replace hw := hw z1 hz G2 hG
    refine lv_dup hx hb dX3_iterator_3 (rv_cat _) ?_
    refine th_aload_n hx hb dX3_iterator_4 rfl (lv_at hL.1 0 rfl) ?_
    obtain ⟨h0, hw⟩ := hw
    refine th_kv hS (th_rIN CF hK hSt hR hS h0 (rest := [rv z1]) (tk_X20_init) (cw_X3_20 CF hK (by decide +kernel)) hw rfl hL.1.1 rfl (th_cr th_cn) (Nat.le_of_ble_eq_true rfl) dX3_iterator_5 ⟨by show _ ≤ (1 : Nat); omega, by show _ ≤ (2 : Nat); omega⟩) (fun G3 H locs hw hR hS => ?_)
    exact th_aret hx hb hret (Or.inl ⟨_, rfl⟩) hlk hR hS hw (by omega) (by omega) dX3_iterator_8)
def tw_X20_hasNext (Q : Int32 → aH → Prop) (G : aH) (a0 : Nat) : Prop :=
  th_o G a0 20 ∧ (
  th_o G a0 20 ∧ (
  th_o G (a_mr G a0 1) 3 ∧ (
  (a_mi G (a_mr G a0 1) 1 ≤ a_mi G a0 0 →
    Q 0 G) ∧
  (¬ a_mi G (a_mr G a0 1) 1 ≤ a_mi G a0 0 →
    Q 1 G))))
theorem tk_X20_hasNext {l : Launch} {D : tD} {B : Nat} {Q : Int32 → aH → Prop} {a0 : Nat} : Met l yX20_hasNext (ws_ yX20_hasNext cX20_hasNext 1 ((Option.some Jvm.ClassFile.FieldType.boolean))) rm_X20_hasNext (th_P D B [rv a0] (fun G => tw_X20_hasNext Q G a0)) (th_Qi D B Q) 0 0 (th_A B) :=
  th_ofW (by decide +kernel) (th_cr th_cn) (Nat.le_of_ble_eq_true rfl) (fun p e s m args below meth c CF hret hlk hnm hK hSt G ls hR hS hw hL => by
    have E : th_E p m c cX20_hasNext 1 s args RX20 meth ((Option.some Jvm.ClassFile.FieldType.boolean)) "hasNext" D B := ⟨CF, hret, hlk, hnm, hK, hSt⟩
    have hx := CF.1; have hb := CF.2.1
    have hL : th_L ls 1 [(0, rv a0)] := hL
    unfold tw_X20_hasNext at hw
    refine th_aload_n hx hb dX20_hasNext_0 rfl (lv_at hL.1 0 rfl) ?_
    obtain ⟨ho, hw⟩ := hw
    refine fg_X20_13 CF hK hR ho dX20_hasNext_1 ?_
    refine th_aload_n hx hb dX20_hasNext_4 rfl (lv_at hL.1 0 rfl) ?_
    obtain ⟨ho, hw⟩ := hw
    refine fg_X20_1 CF hK hR ho dX20_hasNext_5 ?_
    obtain ⟨ho, hw⟩ := hw
    refine fg_X20_17 CF hK hR ho dX20_hasNext_8 ?_
    refine lv_icmp_ge hx hb dX20_hasNext_11 (tgt := 18) (by decide) (fun h => ?_) (fun h => ?_)
    · replace hw := hw.1 h
      refine lv_iconst hx hb dX20_hasNext_18 (v := 0) rfl ?_
      exact th_zret .boolean hx hb hret rfl hlk hR hS hw (by omega) (by omega) dX20_hasNext_19
    · replace hw := hw.2 h
      refine lv_iconst hx hb dX20_hasNext_14 (v := 1) rfl ?_
      refine lv_goto hx hb dX20_hasNext_15 (tgt := 19) (by decide) ?_
      exact th_zret .boolean hx hb hret rfl hlk hR hS hw (by omega) (by omega) dX20_hasNext_19)
def tw_X20_next_2 (Q : Nat → aH → Prop) (G : aH) (a0 : Nat) : Prop :=
  th_o G a0 20 ∧ (
  (tw_X20_hasNext
    (fun (r2 : Int32) (G1 : aH) =>
      (¬ r2 = 0 →
        th_o G1 a0 20 ∧ (
        th_o G1 a0 20 ∧ (
        ∀ G3 : aH, G3 = a_si G1 a0 0 ((a_mi G1 a0 0) + 1) → 
        th_o G3 a0 20 ∧ (
        th_o G3 (a_mr G3 a0 1) 3 ∧ (
        th_o G3 a0 20 ∧ (
        th_ai G3 (a_mr G3 (a_mr G3 a0 1) 0) 3 ((a_mi G3 a0 0) - 1) ∧ (
        Q (a_mr G3 (a_mr G3 (a_mr G3 a0 1) 0) ((a_mi G3 a0 0) - 1).toNatClampNeg) G3))))))) ∧
      (r2 = 0 →
        False))
    G a0))
theorem tk_X20_next_2 {l : Launch} {D : tD} {B : Nat} {Q : Nat → aH → Prop} {a0 : Nat} : Met l yX20_next_2 (ws_ yX20_next_2 cX20_next_2 1 ((Option.some (Jvm.ClassFile.FieldType.object "TitheBarn$Lot")))) rm_X20_next_2 (th_P D B [rv a0] (fun G => tw_X20_next_2 Q G a0)) (th_Qr D B Q) 0 0 (th_A B) :=
  th_ofW (by decide +kernel) (th_cr th_cn) (Nat.le_of_ble_eq_true rfl) (fun p e s m args below meth c CF hret hlk hnm hK hSt G ls hR hS hw hL => by
    have E : th_E p m c cX20_next_2 1 s args RX20 meth ((Option.some (Jvm.ClassFile.FieldType.object "TitheBarn$Lot"))) "next" D B := ⟨CF, hret, hlk, hnm, hK, hSt⟩
    have hx := CF.1; have hb := CF.2.1
    have hL : th_L ls 1 [(0, rv a0)] := hL
    unfold tw_X20_next_2 at hw
    refine th_aload_n hx hb dX20_next_2_0 rfl (lv_at hL.1 0 rfl) ?_
    obtain ⟨ho, hw⟩ := hw
    refine th_ki hS (th_rV CF hK hSt hR hS ho (ci := 20) rfl (rest := []) (tk_X20_hasNext) (cw_X20_22 CF hK (by decide +kernel)) hw rfl hL.1.1 rfl th_cn (Nat.le_of_ble_eq_true rfl) dX20_next_2_1 ⟨by show _ ≤ (0 : Nat); omega, by show _ ≤ (0 : Nat); omega⟩) (fun r2 G1 H locs hw hR hS => ?_)
    refine lv_if_ne hx hb dX20_next_2_4 (tgt := 15) (by decide) (fun h => ?_) (fun h => ?_)
    · replace hw := hw.1 h
      refine th_aload_n hx hb dX20_next_2_15 rfl (lv_at hL.1 0 rfl) ?_
      refine lv_dup hx hb dX20_next_2_16 (rv_cat _) ?_
      obtain ⟨ho, hw⟩ := hw
      refine fg_X20_13 CF hK hR ho dX20_next_2_17 ?_
      refine lv_iconst hx hb dX20_next_2_20 (v := 1) rfl ?_
      refine lv_iadd hx hb dX20_next_2_21 ?_
      obtain ⟨ho, hw⟩ := hw
      refine fp_X20_13 CF hK hR hS ho dX20_next_2_22 (fun G3 H locs hG hR hS => ?_)
      replace hw := hw G3 hG
      refine th_aload_n hx hb dX20_next_2_25 rfl (lv_at hL.1 0 rfl) ?_
      obtain ⟨ho, hw⟩ := hw
      refine fg_X20_1 CF hK hR ho dX20_next_2_26 ?_
      obtain ⟨ho, hw⟩ := hw
      refine fg_X20_29 CF hK hR ho dX20_next_2_29 ?_
      refine th_aload_n hx hb dX20_next_2_32 rfl (lv_at hL.1 0 rfl) ?_
      obtain ⟨ho, hw⟩ := hw
      refine fg_X20_13 CF hK hR ho dX20_next_2_33 ?_
      refine lv_iconst hx hb dX20_next_2_36 (v := 1) rfl ?_
      refine lv_isub hx hb dX20_next_2_37 ?_
      obtain ⟨ha, hw⟩ := hw
      refine th_aald hx hb hK 3 (by decide) rfl rfl hR ha dX20_next_2_38 ?_
      exact th_aret hx hb hret (Or.inl ⟨_, rfl⟩) hlk hR hS hw (by omega) (by omega) dX20_next_2_39
    · replace hw := hw.2 h
      exact hw.elim)
def tw_X20_next (Q : Nat → aH → Prop) (G : aH) (a0 : Nat) : Prop :=
  th_o G a0 20 ∧ (
  (tw_X20_next_2
    (fun (b2 : Nat) (G1 : aH) =>
      Q b2 G1)
    G a0))
theorem tk_X20_next {l : Launch} {D : tD} {B : Nat} {Q : Nat → aH → Prop} {a0 : Nat} : Met l yX20_next (ws_ yX20_next cX20_next 1 ((Option.some (Jvm.ClassFile.FieldType.object "java/lang/Object")))) rm_X20_next (th_P D B [rv a0] (fun G => tw_X20_next Q G a0)) (th_Qr D B Q) 0 0 (th_A B) :=
  th_ofW (by decide +kernel) (th_cr th_cn) (Nat.le_of_ble_eq_true rfl) (fun p e s m args below meth c CF hret hlk hnm hK hSt G ls hR hS hw hL => by
    have E : th_E p m c cX20_next 1 s args RX20 meth ((Option.some (Jvm.ClassFile.FieldType.object "java/lang/Object"))) "next" D B := ⟨CF, hret, hlk, hnm, hK, hSt⟩
    have hx := CF.1; have hb := CF.2.1
    have hL : th_L ls 1 [(0, rv a0)] := hL
    unfold tw_X20_next at hw
    refine th_aload_n hx hb dX20_next_0 rfl (lv_at hL.1 0 rfl) ?_
    obtain ⟨ho, hw⟩ := hw
    refine th_kr hS (th_rV CF hK hSt hR hS ho (ci := 20) rfl (rest := []) (tk_X20_next_2) (cw_X20_33 CF hK (by decide +kernel)) hw rfl hL.1.1 rfl th_cn (Nat.le_of_ble_eq_true rfl) dX20_next_1 ⟨by show _ ≤ (0 : Nat); omega, by show _ ≤ (0 : Nat); omega⟩) (fun b2 G1 H locs hw hR hS => ?_)
    exact th_aret hx hb hret (Or.inl ⟨_, rfl⟩) hlk hR hS hw (by omega) (by omega) dX20_next_4)
def tw_X0_inBays_b83 (Q : Int32 → aH → Prop) (k17 : aH → Int32 → Int32 → Nat → Int32 → Int32 → Prop) (G : aH) (x1 : Int32) (x2 : Int32) (a3 : Nat) (x4 : Int32) (x5 : Int32) : Prop :=
  ∀ x5_8 : Int32, x5_8 = x5 + 1 → 
  k17 G x1 x2 a3 x4 x5_8
def tw_X0_inBays_b78 (Q : Int32 → aH → Prop) (k17 : aH → Int32 → Int32 → Nat → Int32 → Int32 → Prop) (k37 : aH → Int32 → Int32 → Nat → Int32 → Int32 → Nat → Prop) (G : aH) (x1 : Int32) (a3 : Nat) (x4 : Int32) (x5 : Int32) (a7 : Nat) (tx0 : Int32) (tx1 : Int32) : Prop :=
  ∀ x2_11 : Int32, x2_11 = tx1 + tx0 → 
  k37 G x1 x2_11 a3 x4 x5 a7
def tw_X0_inBays_b37 (Q : Int32 → aH → Prop) (k17 : aH → Int32 → Int32 → Nat → Int32 → Int32 → Prop) : Nat → aH → Int32 → Int32 → Nat → Int32 → Int32 → Nat → Prop := fun n => Nat.rec (motive := fun _ => aH → Int32 → Int32 → Nat → Int32 → Int32 → Nat → Prop) (fun _ _ _ _ _ _ _ => False) (fun _ ih G x1 x2 a3 x4 x5 a7 =>
  th_o G a7 20 ∧ (
  (tw_X20_hasNext
    (fun (r7 : Int32) (G6 : aH) =>
      (r7 = 0 →
        tw_X0_inBays_b83 Q k17 G6 x1 x2 a3 x4 x5) ∧
      (¬ r7 = 0 →
        th_o G6 a7 20 ∧ (
        (tw_X20_next
          (fun (b10 : Nat) (G9 : aH) =>
            (b10 = 0 ∨ th_o G9 b10 4) ∧ (
            th_o G9 b10 4 ∧ (
            (¬ a_mi G9 b10 0 = x1 →
              tw_X0_inBays_b78 Q k17 (ih) G9 x1 a3 x4 x5 a7 0 x2) ∧
            (a_mi G9 b10 0 = x1 →
              th_o G9 b10 4 ∧ (
              tw_X0_inBays_b78 Q k17 (ih) G9 x1 a3 x4 x5 a7 (a_mi G9 b10 1) x2)))))
          G6 a7))))
    G a7))) n
theorem tws_X0_inBays_b37 (Q : Int32 → aH → Prop) (k17 : aH → Int32 → Int32 → Nat → Int32 → Int32 → Prop) (n : Nat) (G : aH) (x1 : Int32) (x2 : Int32) (a3 : Nat) (x4 : Int32) (x5 : Int32) (a7 : Nat) : tw_X0_inBays_b37 Q k17 (n + 1) G x1 x2 a3 x4 x5 a7 = (
  th_o G a7 20 ∧ (
  (tw_X20_hasNext
    (fun (r7 : Int32) (G6 : aH) =>
      (r7 = 0 →
        tw_X0_inBays_b83 Q k17 G6 x1 x2 a3 x4 x5) ∧
      (¬ r7 = 0 →
        th_o G6 a7 20 ∧ (
        (tw_X20_next
          (fun (b10 : Nat) (G9 : aH) =>
            (b10 = 0 ∨ th_o G9 b10 4) ∧ (
            th_o G9 b10 4 ∧ (
            (¬ a_mi G9 b10 0 = x1 →
              tw_X0_inBays_b78 Q k17 (tw_X0_inBays_b37 Q k17 n) G9 x1 a3 x4 x5 a7 0 x2) ∧
            (a_mi G9 b10 0 = x1 →
              th_o G9 b10 4 ∧ (
              tw_X0_inBays_b78 Q k17 (tw_X0_inBays_b37 Q k17 n) G9 x1 a3 x4 x5 a7 (a_mi G9 b10 1) x2)))))
          G6 a7))))
    G a7))) := rfl
def tw_X0_inBays_b17 (Q : Int32 → aH → Prop) : Nat → aH → Int32 → Int32 → Nat → Int32 → Int32 → Prop := fun n => Nat.rec (motive := fun _ => aH → Int32 → Int32 → Nat → Int32 → Int32 → Prop) (fun _ _ _ _ _ _ => False) (fun _ ih G x1 x2 a3 x4 x5 =>
  (x4 ≤ x5 →
    Q x2 G) ∧
  (¬ x4 ≤ x5 →
    th_ai G a3 5 x5 ∧ (
    ∀ a6_3 : Nat, a6_3 = a_mr G a3 x5.toNatClampNeg → 
    th_o G a6_3 3 ∧ (
    (tw_X3_iterator
      (fun (b5 : Nat) (G4 : aH) =>
        ∃ n9 : Nat, tw_X0_inBays_b37 Q (ih) n9 G4 x1 x2 a3 x4 x5 b5)
      G a6_3))))) n
theorem tws_X0_inBays_b17 (Q : Int32 → aH → Prop) (n : Nat) (G : aH) (x1 : Int32) (x2 : Int32) (a3 : Nat) (x4 : Int32) (x5 : Int32) : tw_X0_inBays_b17 Q (n + 1) G x1 x2 a3 x4 x5 = (
  (x4 ≤ x5 →
    Q x2 G) ∧
  (¬ x4 ≤ x5 →
    th_ai G a3 5 x5 ∧ (
    ∀ a6_3 : Nat, a6_3 = a_mr G a3 x5.toNatClampNeg → 
    th_o G a6_3 3 ∧ (
    (tw_X3_iterator
      (fun (b5 : Nat) (G4 : aH) =>
        ∃ n9 : Nat, tw_X0_inBays_b37 Q (tw_X0_inBays_b17 Q n) n9 G4 x1 x2 a3 x4 x5 b5)
      G a6_3))))) := rfl
def tw_X0_inBays (Q : Int32 → aH → Prop) (G : aH) (a0 : Nat) (x1 : Int32) : Prop :=
  th_o G a0 0 ∧ (
  th_o G (a_mr G a0 0) 1 ∧ (
  ∀ a3_1 : Nat, a3_1 = a_mr G (a_mr G a0 0) 2 → 
  th_a G a3_1 5 ∧ (
  ∀ x4_2 : Int32, x4_2 = th_len G a3_1 → 
  tw_X0_inBays_b17 Q 5 G x1 0 a3_1 x4_2 0)))
theorem tk_X0_inBays_b83 {p : Program} {l : Launch} {e : Env} {s : State} {m : MethodId} {args : Array Value} {below : List Frame} {meth : Method} {c : Code} {D : tD} {B : Nat} (E : th_E p m c cX0_inBays 9 s args RX0 meth ((Option.some Jvm.ClassFile.FieldType.int)) "inBays" D B) {Q : Int32 → aH → Prop} {k17 : aH → Int32 → Int32 → Nat → Int32 → Int32 → Prop} {c17 s17 : Nat} (h17 : ∀ (G : aH) (H : Heap) (locs : List Loc) (cells slots : Nat) (ls : Array Slot) (y17_0 : Int32) (y17_1 : Int32) (y17_2 : Nat) (y17_3 : Int32) (y17_4 : Int32), k17 G y17_0 y17_1 y17_2 y17_3 y17_4 → th_H D B G H → va_S (th_A B) s.heap H locs → th_L ls 9 [(1, .int y17_0), (2, .int y17_1), (3, rv y17_2), (4, .int y17_3), (5, .int y17_4)] → cells ≤ c17 ∧ slots ≤ s17 → W p l e rm_X0_inBays s m args below meth c H locs cells slots (MQ below (th_Qi D B Q) args s 5 10 (th_A B)) (F0 m 17 ls [])) {G : aH} {H : Heap} {locs : List Loc} {cells slots : Nat} {ls : Array Slot} {x1 : Int32} {x2 : Int32} {a3 : Nat} {x4 : Int32} {x5 : Int32} (hR : th_H D B G H) (hS : va_S (th_A B) s.heap H locs) (hL : th_L ls 9 [(1, .int x1), (2, .int x2), (3, rv a3), (4, .int x4), (5, .int x5)]) (hw : tw_X0_inBays_b83 Q k17 G x1 x2 a3 x4 x5) (hc : cells + (0) ≤ 5 ∧ slots + (0) ≤ 10 ∧ cells + (0) ≤ c17 ∧ slots + (0) ≤ s17) : W p l e rm_X0_inBays s m args below meth c H locs cells slots (MQ below (th_Qi D B Q) args s 5 10 (th_A B)) (F0 m 83 ls []) := by
  have CF := E.1; have hx := CF.1; have hb := CF.2.1; have hret := E.2.1; have hlk := E.2.2.1; have hnm := E.2.2.2.1; have hK := E.2.2.2.2.1; have hSt := E.2.2.2.2.2
  unfold tw_X0_inBays_b83 at hw
  obtain ⟨x5_8, hx5_8⟩ : ∃ y : Int32, y = x5 + 1 := ⟨_, rfl⟩
  replace hw := hw x5_8 hx5_8
  refine th_iinc hx hb dX0_inBays_83 hL (k := 4) rfl (v := x5_8) hx5_8.symm (by decide) rfl (fun ls hL => ?_)
  refine lv_goto hx hb dX0_inBays_86 (tgt := 17) (by decide) ?_
  exact h17 _ _ _ _ _ _ _ _ _ _ _ hw hR hS (hL.sub [1, 2, 3, 4, 0] rfl) ⟨by omega, by omega⟩
theorem tk_X0_inBays_b78 {p : Program} {l : Launch} {e : Env} {s : State} {m : MethodId} {args : Array Value} {below : List Frame} {meth : Method} {c : Code} {D : tD} {B : Nat} (E : th_E p m c cX0_inBays 9 s args RX0 meth ((Option.some Jvm.ClassFile.FieldType.int)) "inBays" D B) {Q : Int32 → aH → Prop} {k17 : aH → Int32 → Int32 → Nat → Int32 → Int32 → Prop} {c17 s17 : Nat} (h17 : ∀ (G : aH) (H : Heap) (locs : List Loc) (cells slots : Nat) (ls : Array Slot) (y17_0 : Int32) (y17_1 : Int32) (y17_2 : Nat) (y17_3 : Int32) (y17_4 : Int32), k17 G y17_0 y17_1 y17_2 y17_3 y17_4 → th_H D B G H → va_S (th_A B) s.heap H locs → th_L ls 9 [(1, .int y17_0), (2, .int y17_1), (3, rv y17_2), (4, .int y17_3), (5, .int y17_4)] → cells ≤ c17 ∧ slots ≤ s17 → W p l e rm_X0_inBays s m args below meth c H locs cells slots (MQ below (th_Qi D B Q) args s 5 10 (th_A B)) (F0 m 17 ls [])) {k37 : aH → Int32 → Int32 → Nat → Int32 → Int32 → Nat → Prop} {c37 s37 : Nat} (h37 : ∀ (G : aH) (H : Heap) (locs : List Loc) (cells slots : Nat) (ls : Array Slot) (y37_0 : Int32) (y37_1 : Int32) (y37_2 : Nat) (y37_3 : Int32) (y37_4 : Int32) (y37_5 : Nat), k37 G y37_0 y37_1 y37_2 y37_3 y37_4 y37_5 → th_H D B G H → va_S (th_A B) s.heap H locs → th_L ls 9 [(1, .int y37_0), (2, .int y37_1), (3, rv y37_2), (4, .int y37_3), (5, .int y37_4), (7, rv y37_5)] → cells ≤ c37 ∧ slots ≤ s37 → W p l e rm_X0_inBays s m args below meth c H locs cells slots (MQ below (th_Qi D B Q) args s 5 10 (th_A B)) (F0 m 37 ls [])) {G : aH} {H : Heap} {locs : List Loc} {cells slots : Nat} {ls : Array Slot} {x1 : Int32} {a3 : Nat} {x4 : Int32} {x5 : Int32} {a7 : Nat} {tx0 : Int32} {tx1 : Int32} (hR : th_H D B G H) (hS : va_S (th_A B) s.heap H locs) (hL : th_L ls 9 [(1, .int x1), (3, rv a3), (4, .int x4), (5, .int x5), (7, rv a7)]) (hw : tw_X0_inBays_b78 Q k17 k37 G x1 a3 x4 x5 a7 tx0 tx1) (hc : cells + (0) ≤ 5 ∧ slots + (0) ≤ 10 ∧ cells + (0) ≤ c17 ∧ slots + (0) ≤ s17 ∧ cells + (0) ≤ c37 ∧ slots + (0) ≤ s37) : W p l e rm_X0_inBays s m args below meth c H locs cells slots (MQ below (th_Qi D B Q) args s 5 10 (th_A B)) (F0 m 78 ls [.int tx0, .int tx1]) := by
  have CF := E.1; have hx := CF.1; have hb := CF.2.1; have hret := E.2.1; have hlk := E.2.2.1; have hnm := E.2.2.2.1; have hK := E.2.2.2.2.1; have hSt := E.2.2.2.2.2
  unfold tw_X0_inBays_b78 at hw
  refine lv_iadd hx hb dX0_inBays_78 ?_
  obtain ⟨x2_11, hx2_11⟩ : ∃ y : Int32, y = tx1 + tx0 := ⟨_, rfl⟩
  replace hw := hw x2_11 hx2_11
  refine th_nmi hx2_11 ?_
  refine th_istore_n hx hb dX0_inBays_79 rfl hL (by decide) rfl (fun ls hL => ?_)
  refine lv_goto hx hb dX0_inBays_80 (tgt := 37) (by decide) ?_
  exact h37 _ _ _ _ _ _ _ _ _ _ _ _ hw hR hS (hL.sub [1, 0, 2, 3, 4, 5] rfl) ⟨by omega, by omega⟩
theorem tk_X0_inBays_b37 {p : Program} {l : Launch} {e : Env} {s : State} {m : MethodId} {args : Array Value} {below : List Frame} {meth : Method} {c : Code} {D : tD} {B : Nat} (E : th_E p m c cX0_inBays 9 s args RX0 meth ((Option.some Jvm.ClassFile.FieldType.int)) "inBays" D B) {Q : Int32 → aH → Prop} {k17 : aH → Int32 → Int32 → Nat → Int32 → Int32 → Prop} {c17 s17 : Nat} (h17 : ∀ (G : aH) (H : Heap) (locs : List Loc) (cells slots : Nat) (ls : Array Slot) (y17_0 : Int32) (y17_1 : Int32) (y17_2 : Nat) (y17_3 : Int32) (y17_4 : Int32), k17 G y17_0 y17_1 y17_2 y17_3 y17_4 → th_H D B G H → va_S (th_A B) s.heap H locs → th_L ls 9 [(1, .int y17_0), (2, .int y17_1), (3, rv y17_2), (4, .int y17_3), (5, .int y17_4)] → cells ≤ c17 ∧ slots ≤ s17 → W p l e rm_X0_inBays s m args below meth c H locs cells slots (MQ below (th_Qi D B Q) args s 5 10 (th_A B)) (F0 m 17 ls [])) : ∀ (n : Nat) {G : aH} {H : Heap} {locs : List Loc} {cells slots : Nat} {ls : Array Slot} {x1 : Int32} {x2 : Int32} {a3 : Nat} {x4 : Int32} {x5 : Int32} {a7 : Nat} (hR : th_H D B G H) (hS : va_S (th_A B) s.heap H locs) (hL : th_L ls 9 [(1, .int x1), (2, .int x2), (3, rv a3), (4, .int x4), (5, .int x5), (7, rv a7)]) (hw : tw_X0_inBays_b37 Q k17 n G x1 x2 a3 x4 x5 a7) (hc : cells + (0) ≤ 5 ∧ slots + (0) ≤ 10 ∧ cells + (0) ≤ c17 ∧ slots + (0) ≤ s17), W p l e rm_X0_inBays s m args below meth c H locs cells slots (MQ below (th_Qi D B Q) args s 5 10 (th_A B)) (F0 m 37 ls []) := by
  have CF := E.1; have hx := CF.1; have hb := CF.2.1; have hret := E.2.1; have hlk := E.2.2.1; have hnm := E.2.2.2.1; have hK := E.2.2.2.2.1; have hSt := E.2.2.2.2.2
  intro n
  induction n with
  | zero => intro _ _ _ _ _ _ _ _ _ _ _ _ _ _ _ hw; exact hw.elim
  | succ n ih =>
    intro G H locs cells slots ls x1 x2 a3 x4 x5 a7 hR hS hL hw hc
    rw [tws_X0_inBays_b37] at hw
    refine th_aload hx hb dX0_inBays_37 (lv_at hL.1 5 rfl) ?_
    obtain ⟨ho, hw⟩ := hw
    refine th_k5i hS (th_rF CF hK hSt hR hS ho (ci := 20) rfl (rest := []) (tk_X20_hasNext) (cw_X0_394 CF hK (by decide +kernel)) hw rfl hL.1.1 rfl th_cn (Nat.le_of_ble_eq_true rfl) dX0_inBays_39 ⟨by show _ ≤ (5 : Nat); omega, by show _ ≤ (10 : Nat); omega⟩) (fun r7 G6 H locs hw hR hS => ?_)
    refine lv_if_eq hx hb dX0_inBays_44 (tgt := 83) (by decide) (fun h => ?_) (fun h => ?_)
    · replace hw := hw.1 h
      exact tk_X0_inBays_b83 E h17 hR hS (hL.sub [0, 1, 2, 3, 4] rfl) hw ⟨by omega, by omega, by omega, by omega⟩
    · replace hw := hw.2 h
      refine th_aload hx hb dX0_inBays_47 (lv_at hL.1 5 rfl) ?_
      obtain ⟨ho, hw⟩ := hw
      refine th_k5r hS (th_rF CF hK hSt hR hS ho (ci := 20) rfl (rest := []) (tk_X20_next) (cw_X0_399 CF hK (by decide +kernel)) hw rfl hL.1.1 rfl th_cn (Nat.le_of_ble_eq_true rfl) dX0_inBays_49 ⟨by show _ ≤ (5 : Nat); omega, by show _ ≤ (10 : Nat); omega⟩) (fun b10 G9 H locs hw hR hS => ?_)
      obtain ⟨ho, hw⟩ := hw
      refine th_cast hx hb CF.2.2.2.1 (ci := 4) rfl (CF.2.2.2.2 _ q1253) hK hR ho dX0_inBays_54 ?_
      refine th_astore hx hb dX0_inBays_57 hL (by decide) rfl (fun ls hL => ?_)
      refine lv_iload_n hx hb dX0_inBays_59 rfl (lv_at hL.1 2 rfl) ?_
      refine th_aload hx hb dX0_inBays_60 (lv_at hL.1 0 rfl) ?_
      obtain ⟨ho, hw⟩ := hw
      refine fg_X0_179 CF hK hR ho dX0_inBays_62 ?_
      refine lv_iload_n hx hb dX0_inBays_65 rfl (lv_at hL.1 1 rfl) ?_
      refine lv_icmp_ne hx hb dX0_inBays_66 (tgt := 77) (by decide) (fun h => ?_) (fun h => ?_)
      · replace hw := hw.1 h
        refine lv_iconst hx hb dX0_inBays_77 (v := 0) rfl ?_
        exact tk_X0_inBays_b78 E h17 (c37 := cells + 0 + 0 + 0) (s37 := slots + 0 + 0 + 0) (fun G H locs cells slots ls y0 y1 y2 y3 y4 y5 hw hR hS hL hc => ih hR hS hL hw ⟨by omega, by omega, by omega, by omega⟩) hR hS (hL.sub [1, 3, 4, 5, 6] rfl) hw ⟨by omega, by omega, by omega, by omega, by omega, by omega⟩
      · replace hw := hw.2 h
        refine th_aload hx hb dX0_inBays_69 (lv_at hL.1 0 rfl) ?_
        obtain ⟨ho, hw⟩ := hw
        refine fg_X0_198 CF hK hR ho dX0_inBays_71 ?_
        refine lv_goto hx hb dX0_inBays_74 (tgt := 78) (by decide) ?_
        exact tk_X0_inBays_b78 E h17 (c37 := cells + 0 + 0 + 0) (s37 := slots + 0 + 0 + 0) (fun G H locs cells slots ls y0 y1 y2 y3 y4 y5 hw hR hS hL hc => ih hR hS hL hw ⟨by omega, by omega, by omega, by omega⟩) hR hS (hL.sub [1, 3, 4, 5, 6] rfl) hw ⟨by omega, by omega, by omega, by omega, by omega, by omega⟩
theorem tk_X0_inBays_b17 {p : Program} {l : Launch} {e : Env} {s : State} {m : MethodId} {args : Array Value} {below : List Frame} {meth : Method} {c : Code} {D : tD} {B : Nat} (E : th_E p m c cX0_inBays 9 s args RX0 meth ((Option.some Jvm.ClassFile.FieldType.int)) "inBays" D B) {Q : Int32 → aH → Prop} : ∀ (n : Nat) {G : aH} {H : Heap} {locs : List Loc} {cells slots : Nat} {ls : Array Slot} {x1 : Int32} {x2 : Int32} {a3 : Nat} {x4 : Int32} {x5 : Int32} (hR : th_H D B G H) (hS : va_S (th_A B) s.heap H locs) (hL : th_L ls 9 [(1, .int x1), (2, .int x2), (3, rv a3), (4, .int x4), (5, .int x5)]) (hw : tw_X0_inBays_b17 Q n G x1 x2 a3 x4 x5) (hc : cells + (n * 1 + 0) ≤ 5 ∧ slots + (n * 2 + 0) ≤ 10), W p l e rm_X0_inBays s m args below meth c H locs cells slots (MQ below (th_Qi D B Q) args s 5 10 (th_A B)) (F0 m 17 ls []) := by
  have CF := E.1; have hx := CF.1; have hb := CF.2.1; have hret := E.2.1; have hlk := E.2.2.1; have hnm := E.2.2.2.1; have hK := E.2.2.2.2.1; have hSt := E.2.2.2.2.2
  intro n
  induction n with
  | zero => intro _ _ _ _ _ _ _ _ _ _ _ _ _ _ hw; exact hw.elim
  | succ n ih =>
    intro G H locs cells slots ls x1 x2 a3 x4 x5 hR hS hL hw hc
    rw [tws_X0_inBays_b17] at hw
    refine lv_iload hx hb dX0_inBays_17 (lv_at hL.1 4 rfl) ?_
    refine lv_iload hx hb dX0_inBays_19 (lv_at hL.1 3 rfl) ?_
    refine lv_icmp_ge hx hb dX0_inBays_21 (tgt := 89) (by decide) (fun h => ?_) (fun h => ?_)
    · replace hw := hw.1 h
      refine lv_iload_n hx hb dX0_inBays_89 rfl (lv_at hL.1 1 rfl) ?_
      exact th_iret hx hb hret hlk hR hS hw (by omega) (by omega) dX0_inBays_90
    · replace hw := hw.2 h
      refine th_aload_n hx hb dX0_inBays_24 rfl (lv_at hL.1 2 rfl) ?_
      refine lv_iload hx hb dX0_inBays_25 (lv_at hL.1 4 rfl) ?_
      obtain ⟨ha, hw⟩ := hw
      refine th_aald hx hb hK 5 (by decide) rfl rfl hR ha dX0_inBays_27 ?_
      obtain ⟨a6_3, ha6_3⟩ : ∃ y : Nat, y = a_mr G a3 x5.toNatClampNeg := ⟨_, rfl⟩
      replace hw := hw a6_3 ha6_3
      refine th_nmr ha6_3 ?_
      refine th_astore hx hb dX0_inBays_28 hL (by decide) rfl (fun ls hL => ?_)
      refine th_aload hx hb dX0_inBays_30 (lv_at hL.1 0 rfl) ?_
      obtain ⟨ho, hw⟩ := hw
      refine th_kr hS (th_rV CF hK hSt hR hS ho (ci := 3) rfl (rest := []) (tk_X3_iterator) (cw_X0_390 CF hK (by decide +kernel)) hw rfl hL.1.1 rfl th_cn (Nat.le_of_ble_eq_true rfl) dX0_inBays_32 ⟨by show _ ≤ (5 : Nat); omega, by show _ ≤ (10 : Nat); omega⟩) (fun b5 G4 H locs hw hR hS => ?_)
      refine th_astore hx hb dX0_inBays_35 hL (by decide) rfl (fun ls hL => ?_)
      obtain ⟨n9, hw⟩ := hw
      exact tk_X0_inBays_b37 E (c17 := cells + 1 + 0) (s17 := slots + 2 + 0) (fun G H locs cells slots ls y0 y1 y2 y3 y4 hw hR hS hL hc => ih hR hS hL hw ⟨by omega, by omega⟩) n9 hR hS (hL.sub [2, 3, 4, 5, 6, 0] rfl) hw ⟨by omega, by omega, by omega, by omega⟩
theorem tk_X0_inBays {l : Launch} {D : tD} {B : Nat} {Q : Int32 → aH → Prop} {a0 : Nat} {x1 : Int32} : Met l yX0_inBays (ws_ yX0_inBays cX0_inBays 9 ((Option.some Jvm.ClassFile.FieldType.int))) rm_X0_inBays (th_P D B [rv a0, .int x1] (fun G => tw_X0_inBays Q G a0 x1)) (th_Qi D B Q) 5 10 (th_A B) :=
  th_ofW (by decide +kernel) (th_cr (th_ci th_cn)) (Nat.le_of_ble_eq_true rfl) (fun p e s m args below meth c CF hret hlk hnm hK hSt G ls hR hS hw hL => by
    have E : th_E p m c cX0_inBays 9 s args RX0 meth ((Option.some Jvm.ClassFile.FieldType.int)) "inBays" D B := ⟨CF, hret, hlk, hnm, hK, hSt⟩
    have hx := CF.1; have hb := CF.2.1
    have hL : th_L ls 9 [(0, rv a0), (1, .int x1)] := hL
    unfold tw_X0_inBays at hw
    refine lv_iconst hx hb dX0_inBays_0 (v := 0) rfl ?_
    refine th_istore_n hx hb dX0_inBays_1 rfl hL (by decide) rfl (fun ls hL => ?_)
    refine th_aload_n hx hb dX0_inBays_2 rfl (lv_at hL.1 1 rfl) ?_
    obtain ⟨ho, hw⟩ := hw
    refine fg_X0_22 CF hK hR ho dX0_inBays_3 ?_
    obtain ⟨ho, hw⟩ := hw
    refine fg_X0_150 CF hK hR ho dX0_inBays_6 ?_
    obtain ⟨a3_1, ha3_1⟩ : ∃ y : Nat, y = a_mr G (a_mr G a0 0) 2 := ⟨_, rfl⟩
    replace hw := hw a3_1 ha3_1
    refine th_nmr ha3_1 ?_
    refine th_astore_n hx hb dX0_inBays_9 rfl hL (by decide) rfl (fun ls hL => ?_)
    refine th_aload_n hx hb dX0_inBays_10 rfl (lv_at hL.1 0 rfl) ?_
    obtain ⟨ha, hw⟩ := hw
    refine th_alen hx hb hK 5 (by decide) hR ha dX0_inBays_11 ?_
    obtain ⟨x4_2, hx4_2⟩ : ∃ y : Int32, y = th_len G a3_1 := ⟨_, rfl⟩
    replace hw := hw x4_2 hx4_2
    refine th_nmi hx4_2 ?_
    refine th_istore hx hb dX0_inBays_12 hL (by decide) rfl (fun ls hL => ?_)
    refine lv_iconst hx hb dX0_inBays_14 (v := 0) rfl ?_
    refine th_istore hx hb dX0_inBays_15 hL (by decide) rfl (fun ls hL => ?_)
    exact tk_X0_inBays_b17 E 5 hR hS (hL.sub [5, 3, 2, 1, 0] rfl) hw ⟨by omega, by omega⟩)
def tw_X0_isAhead (Q : Int32 → aH → Prop) (G : aH) (a0 : Nat) (x1 : Int32) (x2 : Int32) : Prop :=
  th_o G a0 0 ∧ (
  th_o G (a_mr G a0 0) 1 ∧ (
  th_ai G (a_mr G (a_mr G a0 0) 0) 4 x1 ∧ (
  ∀ a3_1 : Nat, a3_1 = a_mr G (a_mr G (a_mr G a0 0) 0) x1.toNatClampNeg → 
  th_o G a0 0 ∧ (
  th_o G (a_mr G a0 0) 1 ∧ (
  th_ai G (a_mr G (a_mr G a0 0) 0) 4 x2 ∧ (
  ∀ a4_2 : Nat, a4_2 = a_mr G (a_mr G (a_mr G a0 0) 0) x2.toNatClampNeg → 
  th_o G a3_1 2 ∧ (
  th_o G a4_2 2 ∧ (
  (a_mi G a3_1 3 = a_mi G a4_2 3 →
    th_o G a3_1 2 ∧ (
    (tw_X2_due
      (fun (r4 : Int32) (G3 : aH) =>
        th_o G3 a4_2 2 ∧ (
        (tw_X2_due
          (fun (r6 : Int32) (G5 : aH) =>
            (r4 = r6 →
              (x2 ≤ x1 →
                Q 0 G5) ∧
              (¬ x2 ≤ x1 →
                Q 1 G5)) ∧
            (¬ r4 = r6 →
              th_o G5 a3_1 2 ∧ (
              (tw_X2_due
                (fun (r8 : Int32) (G7 : aH) =>
                  th_o G7 a4_2 2 ∧ (
                  (tw_X2_due
                    (fun (r10 : Int32) (G9 : aH) =>
                      (r8 ≤ r10 →
                        Q 0 G9) ∧
                      (¬ r8 ≤ r10 →
                        Q 1 G9))
                    G7 a4_2)))
                G5 a3_1))))
          G3 a4_2)))
      G a3_1))) ∧
  (¬ a_mi G a3_1 3 = a_mi G a4_2 3 →
    th_o G a3_1 2 ∧ (
    th_o G a4_2 2 ∧ (
    (a_mi G a3_1 3 ≤ a_mi G a4_2 3 →
      Q 0 G) ∧
    (¬ a_mi G a3_1 3 ≤ a_mi G a4_2 3 →
      Q 1 G))))))))))))
theorem tk_X0_isAhead {l : Launch} {D : tD} {B : Nat} {Q : Int32 → aH → Prop} {a0 : Nat} {x1 : Int32} {x2 : Int32} : Met l yX0_isAhead (ws_ yX0_isAhead cX0_isAhead 5 ((Option.some Jvm.ClassFile.FieldType.boolean))) rm_X0_isAhead (th_P D B [rv a0, .int x1, .int x2] (fun G => tw_X0_isAhead Q G a0 x1 x2)) (th_Qi D B Q) 0 0 (th_A B) :=
  th_ofW (by decide +kernel) (th_cr (th_ci (th_ci th_cn))) (Nat.le_of_ble_eq_true rfl) (fun p e s m args below meth c CF hret hlk hnm hK hSt G ls hR hS hw hL => by
    have E : th_E p m c cX0_isAhead 5 s args RX0 meth ((Option.some Jvm.ClassFile.FieldType.boolean)) "isAhead" D B := ⟨CF, hret, hlk, hnm, hK, hSt⟩
    have hx := CF.1; have hb := CF.2.1
    have hL : th_L ls 5 [(0, rv a0), (1, .int x1), (2, .int x2)] := hL
    unfold tw_X0_isAhead at hw
    refine th_aload_n hx hb dX0_isAhead_0 rfl (lv_at hL.1 0 rfl) ?_
    obtain ⟨ho, hw⟩ := hw
    refine fg_X0_22 CF hK hR ho dX0_isAhead_1 ?_
    obtain ⟨ho, hw⟩ := hw
    refine fg_X0_101 CF hK hR ho dX0_isAhead_4 ?_
    refine lv_iload_n hx hb dX0_isAhead_7 rfl (lv_at hL.1 1 rfl) ?_
    obtain ⟨ha, hw⟩ := hw
    refine th_aald hx hb hK 4 (by decide) rfl rfl hR ha dX0_isAhead_8 ?_
    obtain ⟨a3_1, ha3_1⟩ : ∃ y : Nat, y = a_mr G (a_mr G (a_mr G a0 0) 0) x1.toNatClampNeg := ⟨_, rfl⟩
    replace hw := hw a3_1 ha3_1
    refine th_nmr ha3_1 ?_
    refine th_astore_n hx hb dX0_isAhead_9 rfl hL (by decide) rfl (fun ls hL => ?_)
    refine th_aload_n hx hb dX0_isAhead_10 rfl (lv_at hL.1 1 rfl) ?_
    obtain ⟨ho, hw⟩ := hw
    refine fg_X0_22 CF hK hR ho dX0_isAhead_11 ?_
    obtain ⟨ho, hw⟩ := hw
    refine fg_X0_101 CF hK hR ho dX0_isAhead_14 ?_
    refine lv_iload_n hx hb dX0_isAhead_17 rfl (lv_at hL.1 3 rfl) ?_
    obtain ⟨ha, hw⟩ := hw
    refine th_aald hx hb hK 4 (by decide) rfl rfl hR ha dX0_isAhead_18 ?_
    obtain ⟨a4_2, ha4_2⟩ : ∃ y : Nat, y = a_mr G (a_mr G (a_mr G a0 0) 0) x2.toNatClampNeg := ⟨_, rfl⟩
    replace hw := hw a4_2 ha4_2
    refine th_nmr ha4_2 ?_
    refine th_astore hx hb dX0_isAhead_19 hL (by decide) rfl (fun ls hL => ?_)
    refine th_aload_n hx hb dX0_isAhead_21 rfl (lv_at hL.1 1 rfl) ?_
    obtain ⟨ho, hw⟩ := hw
    refine fg_X0_158 CF hK hR ho dX0_isAhead_22 ?_
    refine th_aload hx hb dX0_isAhead_25 (lv_at hL.1 0 rfl) ?_
    obtain ⟨ho, hw⟩ := hw
    refine fg_X0_158 CF hK hR ho dX0_isAhead_27 ?_
    refine lv_icmp_eq hx hb dX0_isAhead_30 (tgt := 51) (by decide) (fun h => ?_) (fun h => ?_)
    · replace hw := hw.1 h
      refine th_aload_n hx hb dX0_isAhead_51 rfl (lv_at hL.1 1 rfl) ?_
      obtain ⟨ho, hw⟩ := hw
      refine th_ki hS (th_rV CF hK hSt hR hS ho (ci := 2) rfl (rest := []) (tk_X2_due) (cw_X0_154 CF hK (by decide +kernel)) hw rfl hL.1.1 rfl th_cn (Nat.le_of_ble_eq_true rfl) dX0_isAhead_52 ⟨by show _ ≤ (0 : Nat); omega, by show _ ≤ (0 : Nat); omega⟩) (fun r4 G3 H locs hw hR hS => ?_)
      refine th_aload hx hb dX0_isAhead_55 (lv_at hL.1 0 rfl) ?_
      obtain ⟨ho, hw⟩ := hw
      refine th_ki hS (th_rV CF hK hSt hR hS ho (ci := 2) rfl (rest := [.int r4]) (tk_X2_due) (cw_X0_154 CF hK (by decide +kernel)) hw rfl hL.1.1 rfl (th_ci th_cn) (Nat.le_of_ble_eq_true rfl) dX0_isAhead_57 ⟨by show _ ≤ (0 : Nat); omega, by show _ ≤ (0 : Nat); omega⟩) (fun r6 G5 H locs hw hR hS => ?_)
      refine lv_icmp_eq hx hb dX0_isAhead_60 (tgt := 83) (by decide) (fun h => ?_) (fun h => ?_)
      · replace hw := hw.1 h
        refine lv_iload_n hx hb dX0_isAhead_83 rfl (lv_at hL.1 3 rfl) ?_
        refine lv_iload_n hx hb dX0_isAhead_84 rfl (lv_at hL.1 4 rfl) ?_
        refine lv_icmp_ge hx hb dX0_isAhead_85 (tgt := 92) (by decide) (fun h => ?_) (fun h => ?_)
        · replace hw := hw.1 h
          refine lv_iconst hx hb dX0_isAhead_92 (v := 0) rfl ?_
          exact th_zret .boolean hx hb hret rfl hlk hR hS hw (by omega) (by omega) dX0_isAhead_93
        · replace hw := hw.2 h
          refine lv_iconst hx hb dX0_isAhead_88 (v := 1) rfl ?_
          refine lv_goto hx hb dX0_isAhead_89 (tgt := 93) (by decide) ?_
          exact th_zret .boolean hx hb hret rfl hlk hR hS hw (by omega) (by omega) dX0_isAhead_93
      · replace hw := hw.2 h
        refine th_aload_n hx hb dX0_isAhead_63 rfl (lv_at hL.1 1 rfl) ?_
        obtain ⟨ho, hw⟩ := hw
        refine th_ki hS (th_rV CF hK hSt hR hS ho (ci := 2) rfl (rest := []) (tk_X2_due) (cw_X0_154 CF hK (by decide +kernel)) hw rfl hL.1.1 rfl th_cn (Nat.le_of_ble_eq_true rfl) dX0_isAhead_64 ⟨by show _ ≤ (0 : Nat); omega, by show _ ≤ (0 : Nat); omega⟩) (fun r8 G7 H locs hw hR hS => ?_)
        refine th_aload hx hb dX0_isAhead_67 (lv_at hL.1 0 rfl) ?_
        obtain ⟨ho, hw⟩ := hw
        refine th_ki hS (th_rV CF hK hSt hR hS ho (ci := 2) rfl (rest := [.int r8]) (tk_X2_due) (cw_X0_154 CF hK (by decide +kernel)) hw rfl hL.1.1 rfl (th_ci th_cn) (Nat.le_of_ble_eq_true rfl) dX0_isAhead_69 ⟨by show _ ≤ (0 : Nat); omega, by show _ ≤ (0 : Nat); omega⟩) (fun r10 G9 H locs hw hR hS => ?_)
        refine lv_icmp_le hx hb dX0_isAhead_72 (tgt := 79) (by decide) (fun h => ?_) (fun h => ?_)
        · replace hw := hw.1 h
          refine lv_iconst hx hb dX0_isAhead_79 (v := 0) rfl ?_
          refine lv_goto hx hb dX0_isAhead_80 (tgt := 93) (by decide) ?_
          exact th_zret .boolean hx hb hret rfl hlk hR hS hw (by omega) (by omega) dX0_isAhead_93
        · replace hw := hw.2 h
          refine lv_iconst hx hb dX0_isAhead_75 (v := 1) rfl ?_
          refine lv_goto hx hb dX0_isAhead_76 (tgt := 93) (by decide) ?_
          exact th_zret .boolean hx hb hret rfl hlk hR hS hw (by omega) (by omega) dX0_isAhead_93
    · replace hw := hw.2 h
      refine th_aload_n hx hb dX0_isAhead_33 rfl (lv_at hL.1 1 rfl) ?_
      obtain ⟨ho, hw⟩ := hw
      refine fg_X0_158 CF hK hR ho dX0_isAhead_34 ?_
      refine th_aload hx hb dX0_isAhead_37 (lv_at hL.1 0 rfl) ?_
      obtain ⟨ho, hw⟩ := hw
      refine fg_X0_158 CF hK hR ho dX0_isAhead_39 ?_
      refine lv_icmp_le hx hb dX0_isAhead_42 (tgt := 49) (by decide) (fun h => ?_) (fun h => ?_)
      · replace hw := hw.1 h
        refine lv_iconst hx hb dX0_isAhead_49 (v := 0) rfl ?_
        exact th_zret .boolean hx hb hret rfl hlk hR hS hw (by omega) (by omega) dX0_isAhead_50
      · replace hw := hw.2 h
        refine lv_iconst hx hb dX0_isAhead_45 (v := 1) rfl ?_
        refine lv_goto hx hb dX0_isAhead_46 (tgt := 50) (by decide) ?_
        exact th_zret .boolean hx hb hret rfl hlk hR hS hw (by omega) (by omega) dX0_isAhead_50)
def tw_X0_rankOf_b30 (Q : Int32 → aH → Prop) (k4 : aH → Nat → Int32 → Int32 → Int32 → Prop) (G : aH) (a0 : Nat) (x1 : Int32) (x3 : Int32) (tx0 : Int32) (tx1 : Int32) : Prop :=
  ∀ x2_3 : Int32, x2_3 = tx1 + tx0 → 
  ∀ x3_4 : Int32, x3_4 = x3 + 1 → 
  k4 G a0 x1 x2_3 x3_4
def tw_X0_rankOf_b4 (Q : Int32 → aH → Prop) : Nat → aH → Nat → Int32 → Int32 → Int32 → Prop := fun n => Nat.rec (motive := fun _ => aH → Nat → Int32 → Int32 → Int32 → Prop) (fun _ _ _ _ _ => False) (fun _ ih G a0 x1 x2 x3 =>
  th_o G a0 0 ∧ (
  th_o G (a_mr G a0 0) 1 ∧ (
  (a_mi G (a_mr G a0 0) 1 ≤ x3 →
    Q x2 G) ∧
  (¬ a_mi G (a_mr G a0 0) 1 ≤ x3 →
    th_o G a0 0 ∧ (
    (tw_X0_isAhead
      (fun (r2 : Int32) (G1 : aH) =>
        (r2 = 0 →
          tw_X0_rankOf_b30 Q (ih) G1 a0 x1 x3 0 x2) ∧
        (¬ r2 = 0 →
          tw_X0_rankOf_b30 Q (ih) G1 a0 x1 x3 1 x2))
      G a0 x3 x1)))))) n
theorem tws_X0_rankOf_b4 (Q : Int32 → aH → Prop) (n : Nat) (G : aH) (a0 : Nat) (x1 : Int32) (x2 : Int32) (x3 : Int32) : tw_X0_rankOf_b4 Q (n + 1) G a0 x1 x2 x3 = (
  th_o G a0 0 ∧ (
  th_o G (a_mr G a0 0) 1 ∧ (
  (a_mi G (a_mr G a0 0) 1 ≤ x3 →
    Q x2 G) ∧
  (¬ a_mi G (a_mr G a0 0) 1 ≤ x3 →
    th_o G a0 0 ∧ (
    (tw_X0_isAhead
      (fun (r2 : Int32) (G1 : aH) =>
        (r2 = 0 →
          tw_X0_rankOf_b30 Q (tw_X0_rankOf_b4 Q n) G1 a0 x1 x3 0 x2) ∧
        (¬ r2 = 0 →
          tw_X0_rankOf_b30 Q (tw_X0_rankOf_b4 Q n) G1 a0 x1 x3 1 x2))
      G a0 x3 x1)))))) := rfl
def tw_X0_rankOf (Q : Int32 → aH → Prop) (G : aH) (a0 : Nat) (x1 : Int32) : Prop :=
  ∃ n9 : Nat, tw_X0_rankOf_b4 Q n9 G a0 x1 0 0
theorem tk_X0_rankOf_b30 {p : Program} {l : Launch} {e : Env} {s : State} {m : MethodId} {args : Array Value} {below : List Frame} {meth : Method} {c : Code} {D : tD} {B : Nat} (E : th_E p m c cX0_rankOf 4 s args RX0 meth ((Option.some Jvm.ClassFile.FieldType.int)) "rankOf" D B) {Q : Int32 → aH → Prop} {k4 : aH → Nat → Int32 → Int32 → Int32 → Prop} {c4 s4 : Nat} (h4 : ∀ (G : aH) (H : Heap) (locs : List Loc) (cells slots : Nat) (ls : Array Slot) (y4_0 : Nat) (y4_1 : Int32) (y4_2 : Int32) (y4_3 : Int32), k4 G y4_0 y4_1 y4_2 y4_3 → th_H D B G H → va_S (th_A B) s.heap H locs → th_L ls 4 [(0, rv y4_0), (1, .int y4_1), (2, .int y4_2), (3, .int y4_3)] → cells ≤ c4 ∧ slots ≤ s4 → W p l e rm_X0_rankOf s m args below meth c H locs cells slots (MQ below (th_Qi D B Q) args s 0 0 (th_A B)) (F0 m 4 ls [])) {G : aH} {H : Heap} {locs : List Loc} {cells slots : Nat} {ls : Array Slot} {a0 : Nat} {x1 : Int32} {x3 : Int32} {tx0 : Int32} {tx1 : Int32} (hR : th_H D B G H) (hS : va_S (th_A B) s.heap H locs) (hL : th_L ls 4 [(0, rv a0), (1, .int x1), (3, .int x3)]) (hw : tw_X0_rankOf_b30 Q k4 G a0 x1 x3 tx0 tx1) (hc : cells + (0) ≤ 0 ∧ slots + (0) ≤ 0 ∧ cells + (0) ≤ c4 ∧ slots + (0) ≤ s4) : W p l e rm_X0_rankOf s m args below meth c H locs cells slots (MQ below (th_Qi D B Q) args s 0 0 (th_A B)) (F0 m 30 ls [.int tx0, .int tx1]) := by
  have CF := E.1; have hx := CF.1; have hb := CF.2.1; have hret := E.2.1; have hlk := E.2.2.1; have hnm := E.2.2.2.1; have hK := E.2.2.2.2.1; have hSt := E.2.2.2.2.2
  unfold tw_X0_rankOf_b30 at hw
  refine lv_iadd hx hb dX0_rankOf_30 ?_
  obtain ⟨x2_3, hx2_3⟩ : ∃ y : Int32, y = tx1 + tx0 := ⟨_, rfl⟩
  replace hw := hw x2_3 hx2_3
  refine th_nmi hx2_3 ?_
  refine th_istore_n hx hb dX0_rankOf_31 rfl hL (by decide) rfl (fun ls hL => ?_)
  obtain ⟨x3_4, hx3_4⟩ : ∃ y : Int32, y = x3 + 1 := ⟨_, rfl⟩
  replace hw := hw x3_4 hx3_4
  refine th_iinc hx hb dX0_rankOf_32 hL (k := 3) rfl (v := x3_4) hx3_4.symm (by decide) rfl (fun ls hL => ?_)
  refine lv_goto hx hb dX0_rankOf_35 (tgt := 4) (by decide) ?_
  exact h4 _ _ _ _ _ _ _ _ _ _ hw hR hS (hL.sub [2, 3, 1, 0] rfl) ⟨by omega, by omega⟩
theorem tk_X0_rankOf_b4 {p : Program} {l : Launch} {e : Env} {s : State} {m : MethodId} {args : Array Value} {below : List Frame} {meth : Method} {c : Code} {D : tD} {B : Nat} (E : th_E p m c cX0_rankOf 4 s args RX0 meth ((Option.some Jvm.ClassFile.FieldType.int)) "rankOf" D B) {Q : Int32 → aH → Prop} : ∀ (n : Nat) {G : aH} {H : Heap} {locs : List Loc} {cells slots : Nat} {ls : Array Slot} {a0 : Nat} {x1 : Int32} {x2 : Int32} {x3 : Int32} (hR : th_H D B G H) (hS : va_S (th_A B) s.heap H locs) (hL : th_L ls 4 [(0, rv a0), (1, .int x1), (2, .int x2), (3, .int x3)]) (hw : tw_X0_rankOf_b4 Q n G a0 x1 x2 x3) (hc : cells + (0) ≤ 0 ∧ slots + (0) ≤ 0), W p l e rm_X0_rankOf s m args below meth c H locs cells slots (MQ below (th_Qi D B Q) args s 0 0 (th_A B)) (F0 m 4 ls []) := by
  have CF := E.1; have hx := CF.1; have hb := CF.2.1; have hret := E.2.1; have hlk := E.2.2.1; have hnm := E.2.2.2.1; have hK := E.2.2.2.2.1; have hSt := E.2.2.2.2.2
  intro n
  induction n with
  | zero => intro _ _ _ _ _ _ _ _ _ _ _ _ _ hw; exact hw.elim
  | succ n ih =>
    intro G H locs cells slots ls a0 x1 x2 x3 hR hS hL hw hc
    rw [tws_X0_rankOf_b4] at hw
    refine lv_iload_n hx hb dX0_rankOf_4 rfl (lv_at hL.1 3 rfl) ?_
    refine th_aload_n hx hb dX0_rankOf_5 rfl (lv_at hL.1 0 rfl) ?_
    obtain ⟨ho, hw⟩ := hw
    refine fg_X0_22 CF hK hR ho dX0_rankOf_6 ?_
    obtain ⟨ho, hw⟩ := hw
    refine fg_X0_79 CF hK hR ho dX0_rankOf_9 ?_
    refine lv_icmp_ge hx hb dX0_rankOf_12 (tgt := 38) (by decide) (fun h => ?_) (fun h => ?_)
    · replace hw := hw.1 h
      refine lv_iload_n hx hb dX0_rankOf_38 rfl (lv_at hL.1 2 rfl) ?_
      exact th_iret hx hb hret hlk hR hS hw (by omega) (by omega) dX0_rankOf_39
    · replace hw := hw.2 h
      refine lv_iload_n hx hb dX0_rankOf_15 rfl (lv_at hL.1 2 rfl) ?_
      refine th_aload_n hx hb dX0_rankOf_16 rfl (lv_at hL.1 0 rfl) ?_
      refine lv_iload_n hx hb dX0_rankOf_17 rfl (lv_at hL.1 3 rfl) ?_
      refine lv_iload_n hx hb dX0_rankOf_18 rfl (lv_at hL.1 1 rfl) ?_
      obtain ⟨ho, hw⟩ := hw
      refine th_ki hS (th_rV CF hK hSt hR hS ho (ci := 0) rfl (rest := [.int x2]) (tk_X0_isAhead) (cw_X0_444 CF hK (by decide +kernel)) hw rfl hL.1.1 rfl (th_ci th_cn) (Nat.le_of_ble_eq_true rfl) dX0_rankOf_19 ⟨by show _ ≤ (0 : Nat); omega, by show _ ≤ (0 : Nat); omega⟩) (fun r2 G1 H locs hw hR hS => ?_)
      refine lv_if_eq hx hb dX0_rankOf_22 (tgt := 29) (by decide) (fun h => ?_) (fun h => ?_)
      · replace hw := hw.1 h
        refine lv_iconst hx hb dX0_rankOf_29 (v := 0) rfl ?_
        exact tk_X0_rankOf_b30 E (c4 := cells + 0 + 0) (s4 := slots + 0 + 0) (fun G H locs cells slots ls y0 y1 y2 y3 hw hR hS hL hc => ih hR hS hL hw ⟨by omega, by omega⟩) hR hS (hL.sub [0, 1, 3] rfl) hw ⟨by omega, by omega, by omega, by omega⟩
      · replace hw := hw.2 h
        refine lv_iconst hx hb dX0_rankOf_25 (v := 1) rfl ?_
        refine lv_goto hx hb dX0_rankOf_26 (tgt := 30) (by decide) ?_
        exact tk_X0_rankOf_b30 E (c4 := cells + 0 + 0) (s4 := slots + 0 + 0) (fun G H locs cells slots ls y0 y1 y2 y3 hw hR hS hL hc => ih hR hS hL hw ⟨by omega, by omega⟩) hR hS (hL.sub [0, 1, 3] rfl) hw ⟨by omega, by omega, by omega, by omega⟩
theorem tk_X0_rankOf {l : Launch} {D : tD} {B : Nat} {Q : Int32 → aH → Prop} {a0 : Nat} {x1 : Int32} : Met l yX0_rankOf (ws_ yX0_rankOf cX0_rankOf 4 ((Option.some Jvm.ClassFile.FieldType.int))) rm_X0_rankOf (th_P D B [rv a0, .int x1] (fun G => tw_X0_rankOf Q G a0 x1)) (th_Qi D B Q) 0 0 (th_A B) :=
  th_ofW (by decide +kernel) (th_cr (th_ci th_cn)) (Nat.le_of_ble_eq_true rfl) (fun p e s m args below meth c CF hret hlk hnm hK hSt G ls hR hS hw hL => by
    have E : th_E p m c cX0_rankOf 4 s args RX0 meth ((Option.some Jvm.ClassFile.FieldType.int)) "rankOf" D B := ⟨CF, hret, hlk, hnm, hK, hSt⟩
    have hx := CF.1; have hb := CF.2.1
    have hL : th_L ls 4 [(0, rv a0), (1, .int x1)] := hL
    unfold tw_X0_rankOf at hw
    refine lv_iconst hx hb dX0_rankOf_0 (v := 0) rfl ?_
    refine th_istore_n hx hb dX0_rankOf_1 rfl hL (by decide) rfl (fun ls hL => ?_)
    refine lv_iconst hx hb dX0_rankOf_2 (v := 0) rfl ?_
    refine th_istore_n hx hb dX0_rankOf_3 rfl hL (by decide) rfl (fun ls hL => ?_)
    obtain ⟨n9, hw⟩ := hw
    exact tk_X0_rankOf_b4 E n9 hR hS (hL.sub [2, 3, 1, 0] rfl) hw ⟨by omega, by omega⟩)
def tw_X0_parishOf (Q : Int32 → aH → Prop) (G : aH) (a0 : Nat) (x1 : Int32) (x2 : Int32) : Prop :=
  th_o G a0 0 ∧ (
  (tw_X0_isParish
    (fun (r2 : Int32) (G1 : aH) =>
      (¬ r2 = 0 →
        th_o G1 a0 0 ∧ (
        th_o G1 (a_mr G1 a0 0) 1 ∧ (
        th_ai G1 (a_mr G1 (a_mr G1 a0 0) 0) 4 x1 ∧ (
        ∀ a3_3 : Nat, a3_3 = a_mr G1 (a_mr G1 (a_mr G1 a0 0) 0) x1.toNatClampNeg → 
        (x2 = 0 →
          th_o G1 a3_3 2 ∧ (
          Q (a_mi G1 a3_3 0) G1)) ∧
        (x2 = 1 →
          th_o G1 a3_3 2 ∧ (
          Q (a_mi G1 a3_3 1) G1)) ∧
        (x2 = 2 →
          th_o G1 a3_3 2 ∧ (
          (tw_X2_due
            (fun (r5 : Int32) (G4 : aH) =>
              Q r5 G4)
            G1 a3_3))) ∧
        (x2 = 3 →
          th_o G1 a3_3 2 ∧ (
          Q (a_mi G1 a3_3 3) G1)) ∧
        (x2 = 4 →
          th_o G1 a3_3 2 ∧ (
          Q (a_mi G1 a3_3 6) G1)) ∧
        (x2 = 5 →
          th_o G1 a3_3 2 ∧ (
          (¬ a_mi G1 a3_3 6 = 0 →
            th_o G1 a3_3 2 ∧ (
            th_ai G1 (a_mr G1 a3_3 4) 0 0 ∧ (
            Q (a_mi G1 (a_mr G1 a3_3 4) (0 : Int32).toNatClampNeg) G1))) ∧
          (a_mi G1 a3_3 6 = 0 →
            Q (-4) G1))) ∧
        (x2 = 6 →
          th_o G1 a3_3 2 ∧ (
          Q (a_mi G1 a3_3 2) G1)) ∧
        (x2 = 7 →
          th_o G1 a0 0 ∧ (
          (tw_X0_inBays
            (fun (r7 : Int32) (G6 : aH) =>
              Q r7 G6)
            G1 a0 x1))) ∧
        (x2 = 8 →
          th_o G1 a0 0 ∧ (
          (tw_X0_rankOf
            (fun (r9 : Int32) (G8 : aH) =>
              Q r9 G8)
            G1 a0 x1))) ∧
        (¬ x2 = 0 → ¬ x2 = 1 → ¬ x2 = 2 → ¬ x2 = 3 → ¬ x2 = 4 → ¬ x2 = 5 → ¬ x2 = 6 → ¬ x2 = 7 → ¬ x2 = 8 → 
          Q (-2) G1))))) ∧
      (r2 = 0 →
        Q (-1) G1))
    G a0 x1))
theorem tk_X0_parishOf {l : Launch} {D : tD} {B : Nat} {Q : Int32 → aH → Prop} {a0 : Nat} {x1 : Int32} {x2 : Int32} : Met l yX0_parishOf (ws_ yX0_parishOf cX0_parishOf 4 ((Option.some Jvm.ClassFile.FieldType.int))) rm_X0_parishOf (th_P D B [rv a0, .int x1, .int x2] (fun G => tw_X0_parishOf Q G a0 x1 x2)) (th_Qi D B Q) 5 10 (th_A B) :=
  th_ofW (by decide +kernel) (th_cr (th_ci (th_ci th_cn))) (Nat.le_of_ble_eq_true rfl) (fun p e s m args below meth c CF hret hlk hnm hK hSt G ls hR hS hw hL => by
    have E : th_E p m c cX0_parishOf 4 s args RX0 meth ((Option.some Jvm.ClassFile.FieldType.int)) "parishOf" D B := ⟨CF, hret, hlk, hnm, hK, hSt⟩
    have hx := CF.1; have hb := CF.2.1
    have hL : th_L ls 4 [(0, rv a0), (1, .int x1), (2, .int x2)] := hL
    unfold tw_X0_parishOf at hw
    refine th_aload_n hx hb dX0_parishOf_0 rfl (lv_at hL.1 0 rfl) ?_
    refine lv_iload_n hx hb dX0_parishOf_1 rfl (lv_at hL.1 1 rfl) ?_
    obtain ⟨ho, hw⟩ := hw
    refine th_ki hS (th_rV CF hK hSt hR hS ho (ci := 0) rfl (rest := []) (tk_X0_isParish) (cw_X0_124 CF hK (by decide +kernel)) hw rfl hL.1.1 rfl th_cn (Nat.le_of_ble_eq_true rfl) dX0_parishOf_2 ⟨by show _ ≤ (5 : Nat); omega, by show _ ≤ (10 : Nat); omega⟩) (fun r2 G1 H locs hw hR hS => ?_)
    refine lv_if_ne hx hb dX0_parishOf_5 (tgt := 10) (by decide) (fun h => ?_) (fun h => ?_)
    · replace hw := hw.1 h
      refine th_aload_n hx hb dX0_parishOf_10 rfl (lv_at hL.1 0 rfl) ?_
      obtain ⟨ho, hw⟩ := hw
      refine fg_X0_22 CF hK hR ho dX0_parishOf_11 ?_
      obtain ⟨ho, hw⟩ := hw
      refine fg_X0_101 CF hK hR ho dX0_parishOf_14 ?_
      refine lv_iload_n hx hb dX0_parishOf_17 rfl (lv_at hL.1 1 rfl) ?_
      obtain ⟨ha, hw⟩ := hw
      refine th_aald hx hb hK 4 (by decide) rfl rfl hR ha dX0_parishOf_18 ?_
      obtain ⟨a3_3, ha3_3⟩ : ∃ y : Nat, y = a_mr G1 (a_mr G1 (a_mr G1 a0 0) 0) x1.toNatClampNeg := ⟨_, rfl⟩
      replace hw := hw a3_3 ha3_3
      refine th_nmr ha3_3 ?_
      refine th_astore_n hx hb dX0_parishOf_19 rfl hL (by decide) rfl (fun ls hL => ?_)
      refine lv_iload_n hx hb dX0_parishOf_20 rfl (lv_at hL.1 3 rfl) ?_
      by_cases g0 : x2 = 0
      · replace hw := hw.1 g0
        refine lv_tableIn hx hb dX0_parishOf_21 (tgt := 72) (by rw [g0]; decide) (by rw [g0]; decide) (by rw [g0]; rfl) (by decide) ?_
        refine th_aload_n hx hb dX0_parishOf_72 rfl (lv_at hL.1 0 rfl) ?_
        obtain ⟨ho, hw⟩ := hw
        refine fg_X0_184 CF hK hR ho dX0_parishOf_73 ?_
        exact th_iret hx hb hret hlk hR hS hw (by omega) (by omega) dX0_parishOf_76
      by_cases g1 : x2 = 1
      · replace hw := hw.2.1 g1
        refine lv_tableIn hx hb dX0_parishOf_21 (tgt := 77) (by rw [g1]; decide) (by rw [g1]; decide) (by rw [g1]; rfl) (by decide) ?_
        refine th_aload_n hx hb dX0_parishOf_77 rfl (lv_at hL.1 0 rfl) ?_
        obtain ⟨ho, hw⟩ := hw
        refine fg_X0_130 CF hK hR ho dX0_parishOf_78 ?_
        exact th_iret hx hb hret hlk hR hS hw (by omega) (by omega) dX0_parishOf_81
      by_cases g2 : x2 = 2
      · replace hw := hw.2.2.1 g2
        refine lv_tableIn hx hb dX0_parishOf_21 (tgt := 82) (by rw [g2]; decide) (by rw [g2]; decide) (by rw [g2]; rfl) (by decide) ?_
        refine th_aload_n hx hb dX0_parishOf_82 rfl (lv_at hL.1 0 rfl) ?_
        obtain ⟨ho, hw⟩ := hw
        refine th_ki hS (th_rV CF hK hSt hR hS ho (ci := 2) rfl (rest := []) (tk_X2_due) (cw_X0_154 CF hK (by decide +kernel)) hw rfl hL.1.1 rfl th_cn (Nat.le_of_ble_eq_true rfl) dX0_parishOf_83 ⟨by show _ ≤ (5 : Nat); omega, by show _ ≤ (10 : Nat); omega⟩) (fun r5 G4 H locs hw hR hS => ?_)
        exact th_iret hx hb hret hlk hR hS hw (by omega) (by omega) dX0_parishOf_86
      by_cases g3 : x2 = 3
      · replace hw := hw.2.2.2.1 g3
        refine lv_tableIn hx hb dX0_parishOf_21 (tgt := 87) (by rw [g3]; decide) (by rw [g3]; decide) (by rw [g3]; rfl) (by decide) ?_
        refine th_aload_n hx hb dX0_parishOf_87 rfl (lv_at hL.1 0 rfl) ?_
        obtain ⟨ho, hw⟩ := hw
        refine fg_X0_158 CF hK hR ho dX0_parishOf_88 ?_
        exact th_iret hx hb hret hlk hR hS hw (by omega) (by omega) dX0_parishOf_91
      by_cases g4 : x2 = 4
      · replace hw := hw.2.2.2.2.1 g4
        refine lv_tableIn hx hb dX0_parishOf_21 (tgt := 92) (by rw [g4]; decide) (by rw [g4]; decide) (by rw [g4]; rfl) (by decide) ?_
        refine th_aload_n hx hb dX0_parishOf_92 rfl (lv_at hL.1 0 rfl) ?_
        obtain ⟨ho, hw⟩ := hw
        refine fg_X0_403 CF hK hR ho dX0_parishOf_93 ?_
        exact th_iret hx hb hret hlk hR hS hw (by omega) (by omega) dX0_parishOf_96
      by_cases g5 : x2 = 5
      · replace hw := hw.2.2.2.2.2.1 g5
        refine lv_tableIn hx hb dX0_parishOf_21 (tgt := 97) (by rw [g5]; decide) (by rw [g5]; decide) (by rw [g5]; rfl) (by decide) ?_
        refine th_aload_n hx hb dX0_parishOf_97 rfl (lv_at hL.1 0 rfl) ?_
        obtain ⟨ho, hw⟩ := hw
        refine fg_X0_403 CF hK hR ho dX0_parishOf_98 ?_
        refine lv_if_ne hx hb dX0_parishOf_101 (tgt := 109) (by decide) (fun h => ?_) (fun h => ?_)
        · replace hw := hw.1 h
          refine th_aload_n hx hb dX0_parishOf_109 rfl (lv_at hL.1 0 rfl) ?_
          obtain ⟨ho, hw⟩ := hw
          refine fg_X0_404 CF hK hR ho dX0_parishOf_110 ?_
          refine lv_iconst hx hb dX0_parishOf_113 (v := 0) rfl ?_
          obtain ⟨ha, hw⟩ := hw
          refine th_iald hx hb hK hR ha dX0_parishOf_114 ?_
          exact th_iret hx hb hret hlk hR hS hw (by omega) (by omega) dX0_parishOf_115
        · replace hw := hw.2 h
          refine lv_bipush hx hb dX0_parishOf_104 (v := (-4)) rfl ?_
          refine lv_goto hx hb dX0_parishOf_106 (tgt := 115) (by decide) ?_
          exact th_iret hx hb hret hlk hR hS hw (by omega) (by omega) dX0_parishOf_115
      by_cases g6 : x2 = 6
      · replace hw := hw.2.2.2.2.2.2.1 g6
        refine lv_tableIn hx hb dX0_parishOf_21 (tgt := 116) (by rw [g6]; decide) (by rw [g6]; decide) (by rw [g6]; rfl) (by decide) ?_
        refine th_aload_n hx hb dX0_parishOf_116 rfl (lv_at hL.1 0 rfl) ?_
        obtain ⟨ho, hw⟩ := hw
        refine fg_X0_408 CF hK hR ho dX0_parishOf_117 ?_
        exact th_iret hx hb hret hlk hR hS hw (by omega) (by omega) dX0_parishOf_120
      by_cases g7 : x2 = 7
      · replace hw := hw.2.2.2.2.2.2.2.1 g7
        refine lv_tableIn hx hb dX0_parishOf_21 (tgt := 121) (by rw [g7]; decide) (by rw [g7]; decide) (by rw [g7]; rfl) (by decide) ?_
        refine th_aload_n hx hb dX0_parishOf_121 rfl (lv_at hL.1 1 rfl) ?_
        refine lv_iload_n hx hb dX0_parishOf_122 rfl (lv_at hL.1 2 rfl) ?_
        obtain ⟨ho, hw⟩ := hw
        refine th_ki hS (th_rV CF hK hSt hR hS ho (ci := 0) rfl (rest := []) (tk_X0_inBays) (cw_X0_411 CF hK (by decide +kernel)) hw rfl hL.1.1 rfl th_cn (Nat.le_of_ble_eq_true rfl) dX0_parishOf_123 ⟨by show _ ≤ (5 : Nat); omega, by show _ ≤ (10 : Nat); omega⟩) (fun r7 G6 H locs hw hR hS => ?_)
        exact th_iret hx hb hret hlk hR hS hw (by omega) (by omega) dX0_parishOf_126
      by_cases g8 : x2 = 8
      · replace hw := hw.2.2.2.2.2.2.2.2.1 g8
        refine lv_tableIn hx hb dX0_parishOf_21 (tgt := 127) (by rw [g8]; decide) (by rw [g8]; decide) (by rw [g8]; rfl) (by decide) ?_
        refine th_aload_n hx hb dX0_parishOf_127 rfl (lv_at hL.1 1 rfl) ?_
        refine lv_iload_n hx hb dX0_parishOf_128 rfl (lv_at hL.1 2 rfl) ?_
        obtain ⟨ho, hw⟩ := hw
        refine th_ki hS (th_rV CF hK hSt hR hS ho (ci := 0) rfl (rest := []) (tk_X0_rankOf) (cw_X0_414 CF hK (by decide +kernel)) hw rfl hL.1.1 rfl th_cn (Nat.le_of_ble_eq_true rfl) dX0_parishOf_129 ⟨by show _ ≤ (5 : Nat); omega, by show _ ≤ (10 : Nat); omega⟩) (fun r9 G8 H locs hw hR hS => ?_)
        exact th_iret hx hb hret hlk hR hS hw (by omega) (by omega) dX0_parishOf_132
      replace hw := hw.2.2.2.2.2.2.2.2.2 g0 g1 g2 g3 g4 g5 g6 g7 g8
      have w0 := th_sw g0 (k := 0) (by decide)
      have w1 := th_sw g1 (k := 1) (by decide)
      have w2 := th_sw g2 (k := 2) (by decide)
      have w3 := th_sw g3 (k := 3) (by decide)
      have w4 := th_sw g4 (k := 4) (by decide)
      have w5 := th_sw g5 (k := 5) (by decide)
      have w6 := th_sw g6 (k := 6) (by decide)
      have w7 := th_sw g7 (k := 7) (by decide)
      have w8 := th_sw g8 (k := 8) (by decide)
      refine lv_tableOut hx hb dX0_parishOf_21 (tgt := 133) (by omega) (by decide) ?_
      refine lv_bipush hx hb dX0_parishOf_133 (v := (-2)) rfl ?_
      exact th_iret hx hb hret hlk hR hS hw (by omega) (by omega) dX0_parishOf_135
    · replace hw := hw.2 h
      refine lv_iconst hx hb dX0_parishOf_8 (v := (-1)) rfl ?_
      exact th_iret hx hb hret hlk hR hS hw (by omega) (by omega) dX0_parishOf_9)
def tw_X0_overParishes_b4 (Q : Int32 → aH → Prop) : Nat → aH → Nat → Int32 → Int32 → Int32 → Prop := fun n => Nat.rec (motive := fun _ => aH → Nat → Int32 → Int32 → Int32 → Prop) (fun _ _ _ _ _ => False) (fun _ ih G a0 x1 x2 x3 =>
  th_o G a0 0 ∧ (
  th_o G (a_mr G a0 0) 1 ∧ (
  (a_mi G (a_mr G a0 0) 1 ≤ x3 →
    Q x2 G) ∧
  (¬ a_mi G (a_mr G a0 0) 1 ≤ x3 →
    th_o G a0 0 ∧ (
    (tw_X0_parishOf
      (fun (r2 : Int32) (G1 : aH) =>
        ∀ x2_3 : Int32, x2_3 = x2 + r2 → 
        ∀ x3_4 : Int32, x3_4 = x3 + 1 → 
        ih G1 a0 x1 x2_3 x3_4)
      G a0 x3 x1)))))) n
theorem tws_X0_overParishes_b4 (Q : Int32 → aH → Prop) (n : Nat) (G : aH) (a0 : Nat) (x1 : Int32) (x2 : Int32) (x3 : Int32) : tw_X0_overParishes_b4 Q (n + 1) G a0 x1 x2 x3 = (
  th_o G a0 0 ∧ (
  th_o G (a_mr G a0 0) 1 ∧ (
  (a_mi G (a_mr G a0 0) 1 ≤ x3 →
    Q x2 G) ∧
  (¬ a_mi G (a_mr G a0 0) 1 ≤ x3 →
    th_o G a0 0 ∧ (
    (tw_X0_parishOf
      (fun (r2 : Int32) (G1 : aH) =>
        ∀ x2_3 : Int32, x2_3 = x2 + r2 → 
        ∀ x3_4 : Int32, x3_4 = x3 + 1 → 
        tw_X0_overParishes_b4 Q n G1 a0 x1 x2_3 x3_4)
      G a0 x3 x1)))))) := rfl
def tw_X0_overParishes (Q : Int32 → aH → Prop) (G : aH) (a0 : Nat) (x1 : Int32) : Prop :=
  tw_X0_overParishes_b4 Q 7 G a0 x1 0 0
theorem tk_X0_overParishes_b4 {p : Program} {l : Launch} {e : Env} {s : State} {m : MethodId} {args : Array Value} {below : List Frame} {meth : Method} {c : Code} {D : tD} {B : Nat} (E : th_E p m c cX0_overParishes 4 s args RX0 meth ((Option.some Jvm.ClassFile.FieldType.int)) "overParishes" D B) {Q : Int32 → aH → Prop} : ∀ (n : Nat) {G : aH} {H : Heap} {locs : List Loc} {cells slots : Nat} {ls : Array Slot} {a0 : Nat} {x1 : Int32} {x2 : Int32} {x3 : Int32} (hR : th_H D B G H) (hS : va_S (th_A B) s.heap H locs) (hL : th_L ls 4 [(0, rv a0), (1, .int x1), (2, .int x2), (3, .int x3)]) (hw : tw_X0_overParishes_b4 Q n G a0 x1 x2 x3) (hc : cells + (n * 5 + 0) ≤ 35 ∧ slots + (n * 10 + 0) ≤ 70), W p l e rm_X0_overParishes s m args below meth c H locs cells slots (MQ below (th_Qi D B Q) args s 35 70 (th_A B)) (F0 m 4 ls []) := by
  have CF := E.1; have hx := CF.1; have hb := CF.2.1; have hret := E.2.1; have hlk := E.2.2.1; have hnm := E.2.2.2.1; have hK := E.2.2.2.2.1; have hSt := E.2.2.2.2.2
  intro n
  induction n with
  | zero => intro _ _ _ _ _ _ _ _ _ _ _ _ _ hw; exact hw.elim
  | succ n ih =>
    intro G H locs cells slots ls a0 x1 x2 x3 hR hS hL hw hc
    rw [tws_X0_overParishes_b4] at hw
    refine lv_iload_n hx hb dX0_overParishes_4 rfl (lv_at hL.1 3 rfl) ?_
    refine th_aload_n hx hb dX0_overParishes_5 rfl (lv_at hL.1 0 rfl) ?_
    obtain ⟨ho, hw⟩ := hw
    refine fg_X0_22 CF hK hR ho dX0_overParishes_6 ?_
    obtain ⟨ho, hw⟩ := hw
    refine fg_X0_79 CF hK hR ho dX0_overParishes_9 ?_
    refine lv_icmp_ge hx hb dX0_overParishes_12 (tgt := 30) (by decide) (fun h => ?_) (fun h => ?_)
    · replace hw := hw.1 h
      refine lv_iload_n hx hb dX0_overParishes_30 rfl (lv_at hL.1 2 rfl) ?_
      exact th_iret hx hb hret hlk hR hS hw (by omega) (by omega) dX0_overParishes_31
    · replace hw := hw.2 h
      refine lv_iload_n hx hb dX0_overParishes_15 rfl (lv_at hL.1 2 rfl) ?_
      refine th_aload_n hx hb dX0_overParishes_16 rfl (lv_at hL.1 0 rfl) ?_
      refine lv_iload_n hx hb dX0_overParishes_17 rfl (lv_at hL.1 3 rfl) ?_
      refine lv_iload_n hx hb dX0_overParishes_18 rfl (lv_at hL.1 1 rfl) ?_
      obtain ⟨ho, hw⟩ := hw
      refine th_ki hS (th_rV CF hK hSt hR hS ho (ci := 0) rfl (rest := [.int x2]) (tk_X0_parishOf) (cw_X0_454 CF hK (by decide +kernel)) hw rfl hL.1.1 rfl (th_ci th_cn) (Nat.le_of_ble_eq_true rfl) dX0_overParishes_19 ⟨by show _ ≤ (35 : Nat); omega, by show _ ≤ (70 : Nat); omega⟩) (fun r2 G1 H locs hw hR hS => ?_)
      refine lv_iadd hx hb dX0_overParishes_22 ?_
      obtain ⟨x2_3, hx2_3⟩ : ∃ y : Int32, y = x2 + r2 := ⟨_, rfl⟩
      replace hw := hw x2_3 hx2_3
      refine th_nmi hx2_3 ?_
      refine th_istore_n hx hb dX0_overParishes_23 rfl hL (by decide) rfl (fun ls hL => ?_)
      obtain ⟨x3_4, hx3_4⟩ : ∃ y : Int32, y = x3 + 1 := ⟨_, rfl⟩
      replace hw := hw x3_4 hx3_4
      refine th_iinc hx hb dX0_overParishes_24 hL (k := 3) rfl (v := x3_4) hx3_4.symm (by decide) rfl (fun ls hL => ?_)
      refine lv_goto hx hb dX0_overParishes_27 (tgt := 4) (by decide) ?_
      exact ih hR hS (hL.sub [2, 3, 1, 0] rfl) hw ⟨by omega, by omega⟩
theorem tk_X0_overParishes {l : Launch} {D : tD} {B : Nat} {Q : Int32 → aH → Prop} {a0 : Nat} {x1 : Int32} : Met l yX0_overParishes (ws_ yX0_overParishes cX0_overParishes 4 ((Option.some Jvm.ClassFile.FieldType.int))) rm_X0_overParishes (th_P D B [rv a0, .int x1] (fun G => tw_X0_overParishes Q G a0 x1)) (th_Qi D B Q) 35 70 (th_A B) :=
  th_ofW (by decide +kernel) (th_cr (th_ci th_cn)) (Nat.le_of_ble_eq_true rfl) (fun p e s m args below meth c CF hret hlk hnm hK hSt G ls hR hS hw hL => by
    have E : th_E p m c cX0_overParishes 4 s args RX0 meth ((Option.some Jvm.ClassFile.FieldType.int)) "overParishes" D B := ⟨CF, hret, hlk, hnm, hK, hSt⟩
    have hx := CF.1; have hb := CF.2.1
    have hL : th_L ls 4 [(0, rv a0), (1, .int x1)] := hL
    unfold tw_X0_overParishes at hw
    refine lv_iconst hx hb dX0_overParishes_0 (v := 0) rfl ?_
    refine th_istore_n hx hb dX0_overParishes_1 rfl hL (by decide) rfl (fun ls hL => ?_)
    refine lv_iconst hx hb dX0_overParishes_2 (v := 0) rfl ?_
    refine th_istore_n hx hb dX0_overParishes_3 rfl hL (by decide) rfl (fun ls hL => ?_)
    exact tk_X0_overParishes_b4 E 7 hR hS (hL.sub [2, 3, 1, 0] rfl) hw ⟨by omega, by omega⟩)
def tw_X0_isKind (Q : Int32 → aH → Prop) (G : aH) (x0 : Int32) : Prop :=
  (tw_X0_within
    (fun (r2 : Int32) (G1 : aH) =>
      narrow .boolean (.int r2) = .int r2 ∧ Q r2 G1)
    G x0 0 2)
theorem tk_X0_isKind {l : Launch} {D : tD} {B : Nat} {Q : Int32 → aH → Prop} {x0 : Int32} : Met l yX0_isKind (ws_ yX0_isKind cX0_isKind 1 ((Option.some Jvm.ClassFile.FieldType.boolean))) rm_X0_isKind (th_P D B [.int x0] (fun G => tw_X0_isKind Q G x0)) (th_Qi D B Q) 0 0 (th_A B) :=
  th_ofW (by decide +kernel) (th_ci th_cn) (Nat.le_of_ble_eq_true rfl) (fun p e s m args below meth c CF hret hlk hnm hK hSt G ls hR hS hw hL => by
    have E : th_E p m c cX0_isKind 1 s args RX0 meth ((Option.some Jvm.ClassFile.FieldType.boolean)) "isKind" D B := ⟨CF, hret, hlk, hnm, hK, hSt⟩
    have hx := CF.1; have hb := CF.2.1
    have hL : th_L ls 1 [(0, .int x0)] := hL
    unfold tw_X0_isKind at hw
    refine lv_iload_n hx hb dX0_isKind_0 rfl (lv_at hL.1 0 rfl) ?_
    refine lv_iconst hx hb dX0_isKind_1 (v := 0) rfl ?_
    refine lv_iconst hx hb dX0_isKind_2 (v := 2) rfl ?_
    refine th_ki hS (th_rS CF hK hSt hR hS (rest := []) (tk_X0_within) (cw_X0_82 CF hK (by decide +kernel)) hw rfl hL.1.1 rfl th_cn (Nat.le_of_ble_eq_true rfl) dX0_isKind_3 ⟨by show _ ≤ (0 : Nat); omega, by show _ ≤ (0 : Nat); omega⟩) (fun r2 G1 H locs hw hR hS => ?_)
    exact th_zret .boolean hx hb hret hw.1 hlk hR hS hw.2 (by omega) (by omega) dX0_isKind_6)
def tw_X0_binOf (Q : Int32 → aH → Prop) (G : aH) (a0 : Nat) (x1 : Int32) (x2 : Int32) : Prop :=
  (tw_X0_isKind
    (fun (r2 : Int32) (G1 : aH) =>
      (¬ r2 = 0 →
        th_o G1 a0 0 ∧ (
        th_o G1 (a_mr G1 a0 0) 1 ∧ (
        th_ai G1 (a_mr G1 (a_mr G1 a0 0) 4) 7 x1 ∧ (
        ∀ a3_3 : Nat, a3_3 = a_mr G1 (a_mr G1 (a_mr G1 a0 0) 4) x1.toNatClampNeg → 
        (x2 = 0 →
          th_o G1 a3_3 6 ∧ (
          Q (a_mi G1 a3_3 0) G1)) ∧
        (x2 = 1 →
          th_o G1 a3_3 6 ∧ (
          Q (a_mi G1 a3_3 1) G1)) ∧
        (x2 = 2 →
          th_o G1 a3_3 6 ∧ (
          Q (a_mi G1 a3_3 2) G1)) ∧
        (x2 = 3 →
          th_o G1 a3_3 6 ∧ (
          Q (a_mi G1 a3_3 3) G1)) ∧
        (x2 = 4 →
          th_o G1 a3_3 6 ∧ (
          Q (a_mi G1 a3_3 4) G1)) ∧
        (¬ x2 = 0 → ¬ x2 = 1 → ¬ x2 = 2 → ¬ x2 = 3 → ¬ x2 = 4 → 
          Q (-2) G1))))) ∧
      (r2 = 0 →
        Q (-1) G1))
    G x1)
theorem tk_X0_binOf {l : Launch} {D : tD} {B : Nat} {Q : Int32 → aH → Prop} {a0 : Nat} {x1 : Int32} {x2 : Int32} : Met l yX0_binOf (ws_ yX0_binOf cX0_binOf 4 ((Option.some Jvm.ClassFile.FieldType.int))) rm_X0_binOf (th_P D B [rv a0, .int x1, .int x2] (fun G => tw_X0_binOf Q G a0 x1 x2)) (th_Qi D B Q) 0 0 (th_A B) :=
  th_ofW (by decide +kernel) (th_cr (th_ci (th_ci th_cn))) (Nat.le_of_ble_eq_true rfl) (fun p e s m args below meth c CF hret hlk hnm hK hSt G ls hR hS hw hL => by
    have E : th_E p m c cX0_binOf 4 s args RX0 meth ((Option.some Jvm.ClassFile.FieldType.int)) "binOf" D B := ⟨CF, hret, hlk, hnm, hK, hSt⟩
    have hx := CF.1; have hb := CF.2.1
    have hL : th_L ls 4 [(0, rv a0), (1, .int x1), (2, .int x2)] := hL
    unfold tw_X0_binOf at hw
    refine lv_iload_n hx hb dX0_binOf_0 rfl (lv_at hL.1 1 rfl) ?_
    refine th_ki hS (th_rS CF hK hSt hR hS (rest := []) (tk_X0_isKind) (cw_X0_89 CF hK (by decide +kernel)) hw rfl hL.1.1 rfl th_cn (Nat.le_of_ble_eq_true rfl) dX0_binOf_1 ⟨by show _ ≤ (0 : Nat); omega, by show _ ≤ (0 : Nat); omega⟩) (fun r2 G1 H locs hw hR hS => ?_)
    refine lv_if_ne hx hb dX0_binOf_4 (tgt := 9) (by decide) (fun h => ?_) (fun h => ?_)
    · replace hw := hw.1 h
      refine th_aload_n hx hb dX0_binOf_9 rfl (lv_at hL.1 0 rfl) ?_
      obtain ⟨ho, hw⟩ := hw
      refine fg_X0_22 CF hK hR ho dX0_binOf_10 ?_
      obtain ⟨ho, hw⟩ := hw
      refine fg_X0_226 CF hK hR ho dX0_binOf_13 ?_
      refine lv_iload_n hx hb dX0_binOf_16 rfl (lv_at hL.1 1 rfl) ?_
      obtain ⟨ha, hw⟩ := hw
      refine th_aald hx hb hK 7 (by decide) rfl rfl hR ha dX0_binOf_17 ?_
      obtain ⟨a3_3, ha3_3⟩ : ∃ y : Nat, y = a_mr G1 (a_mr G1 (a_mr G1 a0 0) 4) x1.toNatClampNeg := ⟨_, rfl⟩
      replace hw := hw a3_3 ha3_3
      refine th_nmr ha3_3 ?_
      refine th_astore_n hx hb dX0_binOf_18 rfl hL (by decide) rfl (fun ls hL => ?_)
      refine lv_iload_n hx hb dX0_binOf_19 rfl (lv_at hL.1 3 rfl) ?_
      by_cases g0 : x2 = 0
      · replace hw := hw.1 g0
        refine lv_tableIn hx hb dX0_binOf_20 (tgt := 56) (by rw [g0]; decide) (by rw [g0]; decide) (by rw [g0]; rfl) (by decide) ?_
        refine th_aload_n hx hb dX0_binOf_56 rfl (lv_at hL.1 0 rfl) ?_
        obtain ⟨ho, hw⟩ := hw
        refine fg_X0_238 CF hK hR ho dX0_binOf_57 ?_
        exact th_iret hx hb hret hlk hR hS hw (by omega) (by omega) dX0_binOf_60
      by_cases g1 : x2 = 1
      · replace hw := hw.2.1 g1
        refine lv_tableIn hx hb dX0_binOf_20 (tgt := 61) (by rw [g1]; decide) (by rw [g1]; decide) (by rw [g1]; rfl) (by decide) ?_
        refine th_aload_n hx hb dX0_binOf_61 rfl (lv_at hL.1 0 rfl) ?_
        obtain ⟨ho, hw⟩ := hw
        refine fg_X0_230 CF hK hR ho dX0_binOf_62 ?_
        exact th_iret hx hb hret hlk hR hS hw (by omega) (by omega) dX0_binOf_65
      by_cases g2 : x2 = 2
      · replace hw := hw.2.2.1 g2
        refine lv_tableIn hx hb dX0_binOf_20 (tgt := 66) (by rw [g2]; decide) (by rw [g2]; decide) (by rw [g2]; rfl) (by decide) ?_
        refine th_aload_n hx hb dX0_binOf_66 rfl (lv_at hL.1 0 rfl) ?_
        obtain ⟨ho, hw⟩ := hw
        refine fg_X0_253 CF hK hR ho dX0_binOf_67 ?_
        exact th_iret hx hb hret hlk hR hS hw (by omega) (by omega) dX0_binOf_70
      by_cases g3 : x2 = 3
      · replace hw := hw.2.2.2.1 g3
        refine lv_tableIn hx hb dX0_binOf_20 (tgt := 71) (by rw [g3]; decide) (by rw [g3]; decide) (by rw [g3]; rfl) (by decide) ?_
        refine th_aload_n hx hb dX0_binOf_71 rfl (lv_at hL.1 0 rfl) ?_
        obtain ⟨ho, hw⟩ := hw
        refine fg_X0_250 CF hK hR ho dX0_binOf_72 ?_
        exact th_iret hx hb hret hlk hR hS hw (by omega) (by omega) dX0_binOf_75
      by_cases g4 : x2 = 4
      · replace hw := hw.2.2.2.2.1 g4
        refine lv_tableIn hx hb dX0_binOf_20 (tgt := 76) (by rw [g4]; decide) (by rw [g4]; decide) (by rw [g4]; rfl) (by decide) ?_
        refine th_aload_n hx hb dX0_binOf_76 rfl (lv_at hL.1 0 rfl) ?_
        obtain ⟨ho, hw⟩ := hw
        refine fg_X0_424 CF hK hR ho dX0_binOf_77 ?_
        exact th_iret hx hb hret hlk hR hS hw (by omega) (by omega) dX0_binOf_80
      replace hw := hw.2.2.2.2.2 g0 g1 g2 g3 g4
      have w0 := th_sw g0 (k := 0) (by decide)
      have w1 := th_sw g1 (k := 1) (by decide)
      have w2 := th_sw g2 (k := 2) (by decide)
      have w3 := th_sw g3 (k := 3) (by decide)
      have w4 := th_sw g4 (k := 4) (by decide)
      refine lv_tableOut hx hb dX0_binOf_20 (tgt := 81) (by omega) (by decide) ?_
      refine lv_bipush hx hb dX0_binOf_81 (v := (-2)) rfl ?_
      exact th_iret hx hb hret hlk hR hS hw (by omega) (by omega) dX0_binOf_83
    · replace hw := hw.2 h
      refine lv_iconst hx hb dX0_binOf_7 (v := (-1)) rfl ?_
      exact th_iret hx hb hret hlk hR hS hw (by omega) (by omega) dX0_binOf_8)
def tw_X0_overBins_b4 (Q : Int32 → aH → Prop) : Nat → aH → Nat → Int32 → Int32 → Int32 → Prop := fun n => Nat.rec (motive := fun _ => aH → Nat → Int32 → Int32 → Int32 → Prop) (fun _ _ _ _ _ => False) (fun _ ih G a0 x1 x2 x3 =>
  (3 ≤ x3 →
    Q x2 G) ∧
  (¬ 3 ≤ x3 →
    th_o G a0 0 ∧ (
    (tw_X0_binOf
      (fun (r2 : Int32) (G1 : aH) =>
        ∀ x2_3 : Int32, x2_3 = x2 + r2 → 
        ∀ x3_4 : Int32, x3_4 = x3 + 1 → 
        ih G1 a0 x1 x2_3 x3_4)
      G a0 x3 x1)))) n
theorem tws_X0_overBins_b4 (Q : Int32 → aH → Prop) (n : Nat) (G : aH) (a0 : Nat) (x1 : Int32) (x2 : Int32) (x3 : Int32) : tw_X0_overBins_b4 Q (n + 1) G a0 x1 x2 x3 = (
  (3 ≤ x3 →
    Q x2 G) ∧
  (¬ 3 ≤ x3 →
    th_o G a0 0 ∧ (
    (tw_X0_binOf
      (fun (r2 : Int32) (G1 : aH) =>
        ∀ x2_3 : Int32, x2_3 = x2 + r2 → 
        ∀ x3_4 : Int32, x3_4 = x3 + 1 → 
        tw_X0_overBins_b4 Q n G1 a0 x1 x2_3 x3_4)
      G a0 x3 x1)))) := rfl
def tw_X0_overBins (Q : Int32 → aH → Prop) (G : aH) (a0 : Nat) (x1 : Int32) : Prop :=
  ∃ n9 : Nat, tw_X0_overBins_b4 Q n9 G a0 x1 0 0
theorem tk_X0_overBins_b4 {p : Program} {l : Launch} {e : Env} {s : State} {m : MethodId} {args : Array Value} {below : List Frame} {meth : Method} {c : Code} {D : tD} {B : Nat} (E : th_E p m c cX0_overBins 4 s args RX0 meth ((Option.some Jvm.ClassFile.FieldType.int)) "overBins" D B) {Q : Int32 → aH → Prop} : ∀ (n : Nat) {G : aH} {H : Heap} {locs : List Loc} {cells slots : Nat} {ls : Array Slot} {a0 : Nat} {x1 : Int32} {x2 : Int32} {x3 : Int32} (hR : th_H D B G H) (hS : va_S (th_A B) s.heap H locs) (hL : th_L ls 4 [(0, rv a0), (1, .int x1), (2, .int x2), (3, .int x3)]) (hw : tw_X0_overBins_b4 Q n G a0 x1 x2 x3) (hc : cells + (0) ≤ 0 ∧ slots + (0) ≤ 0), W p l e rm_X0_overBins s m args below meth c H locs cells slots (MQ below (th_Qi D B Q) args s 0 0 (th_A B)) (F0 m 4 ls []) := by
  have CF := E.1; have hx := CF.1; have hb := CF.2.1; have hret := E.2.1; have hlk := E.2.2.1; have hnm := E.2.2.2.1; have hK := E.2.2.2.2.1; have hSt := E.2.2.2.2.2
  intro n
  induction n with
  | zero => intro _ _ _ _ _ _ _ _ _ _ _ _ _ hw; exact hw.elim
  | succ n ih =>
    intro G H locs cells slots ls a0 x1 x2 x3 hR hS hL hw hc
    rw [tws_X0_overBins_b4] at hw
    refine lv_iload_n hx hb dX0_overBins_4 rfl (lv_at hL.1 3 rfl) ?_
    refine lv_iconst hx hb dX0_overBins_5 (v := 3) rfl ?_
    refine lv_icmp_ge hx hb dX0_overBins_6 (tgt := 24) (by decide) (fun h => ?_) (fun h => ?_)
    · replace hw := hw.1 h
      refine lv_iload_n hx hb dX0_overBins_24 rfl (lv_at hL.1 2 rfl) ?_
      exact th_iret hx hb hret hlk hR hS hw (by omega) (by omega) dX0_overBins_25
    · replace hw := hw.2 h
      refine lv_iload_n hx hb dX0_overBins_9 rfl (lv_at hL.1 2 rfl) ?_
      refine th_aload_n hx hb dX0_overBins_10 rfl (lv_at hL.1 0 rfl) ?_
      refine lv_iload_n hx hb dX0_overBins_11 rfl (lv_at hL.1 3 rfl) ?_
      refine lv_iload_n hx hb dX0_overBins_12 rfl (lv_at hL.1 1 rfl) ?_
      obtain ⟨ho, hw⟩ := hw
      refine th_ki hS (th_rV CF hK hSt hR hS ho (ci := 0) rfl (rest := [.int x2]) (tk_X0_binOf) (cw_X0_451 CF hK (by decide +kernel)) hw rfl hL.1.1 rfl (th_ci th_cn) (Nat.le_of_ble_eq_true rfl) dX0_overBins_13 ⟨by show _ ≤ (0 : Nat); omega, by show _ ≤ (0 : Nat); omega⟩) (fun r2 G1 H locs hw hR hS => ?_)
      refine lv_iadd hx hb dX0_overBins_16 ?_
      obtain ⟨x2_3, hx2_3⟩ : ∃ y : Int32, y = x2 + r2 := ⟨_, rfl⟩
      replace hw := hw x2_3 hx2_3
      refine th_nmi hx2_3 ?_
      refine th_istore_n hx hb dX0_overBins_17 rfl hL (by decide) rfl (fun ls hL => ?_)
      obtain ⟨x3_4, hx3_4⟩ : ∃ y : Int32, y = x3 + 1 := ⟨_, rfl⟩
      replace hw := hw x3_4 hx3_4
      refine th_iinc hx hb dX0_overBins_18 hL (k := 3) rfl (v := x3_4) hx3_4.symm (by decide) rfl (fun ls hL => ?_)
      refine lv_goto hx hb dX0_overBins_21 (tgt := 4) (by decide) ?_
      exact ih hR hS (hL.sub [2, 3, 1, 0] rfl) hw ⟨by omega, by omega⟩
theorem tk_X0_overBins {l : Launch} {D : tD} {B : Nat} {Q : Int32 → aH → Prop} {a0 : Nat} {x1 : Int32} : Met l yX0_overBins (ws_ yX0_overBins cX0_overBins 4 ((Option.some Jvm.ClassFile.FieldType.int))) rm_X0_overBins (th_P D B [rv a0, .int x1] (fun G => tw_X0_overBins Q G a0 x1)) (th_Qi D B Q) 0 0 (th_A B) :=
  th_ofW (by decide +kernel) (th_cr (th_ci th_cn)) (Nat.le_of_ble_eq_true rfl) (fun p e s m args below meth c CF hret hlk hnm hK hSt G ls hR hS hw hL => by
    have E : th_E p m c cX0_overBins 4 s args RX0 meth ((Option.some Jvm.ClassFile.FieldType.int)) "overBins" D B := ⟨CF, hret, hlk, hnm, hK, hSt⟩
    have hx := CF.1; have hb := CF.2.1
    have hL : th_L ls 4 [(0, rv a0), (1, .int x1)] := hL
    unfold tw_X0_overBins at hw
    refine lv_iconst hx hb dX0_overBins_0 (v := 0) rfl ?_
    refine th_istore_n hx hb dX0_overBins_1 rfl hL (by decide) rfl (fun ls hL => ?_)
    refine lv_iconst hx hb dX0_overBins_2 (v := 0) rfl ?_
    refine th_istore_n hx hb dX0_overBins_3 rfl hL (by decide) rfl (fun ls hL => ?_)
    obtain ⟨n9, hw⟩ := hw
    exact tk_X0_overBins_b4 E n9 hR hS (hL.sub [2, 3, 1, 0] rfl) hw ⟨by omega, by omega⟩)
def tw_X0_isPlace (Q : Int32 → aH → Prop) (G : aH) (x0 : Int32) : Prop :=
  (tw_X0_within
    (fun (r2 : Int32) (G1 : aH) =>
      narrow .boolean (.int r2) = .int r2 ∧ Q r2 G1)
    G x0 0 6)
theorem tk_X0_isPlace {l : Launch} {D : tD} {B : Nat} {Q : Int32 → aH → Prop} {x0 : Int32} : Met l yX0_isPlace (ws_ yX0_isPlace cX0_isPlace 1 ((Option.some Jvm.ClassFile.FieldType.boolean))) rm_X0_isPlace (th_P D B [.int x0] (fun G => tw_X0_isPlace Q G x0)) (th_Qi D B Q) 0 0 (th_A B) :=
  th_ofW (by decide +kernel) (th_ci th_cn) (Nat.le_of_ble_eq_true rfl) (fun p e s m args below meth c CF hret hlk hnm hK hSt G ls hR hS hw hL => by
    have E : th_E p m c cX0_isPlace 1 s args RX0 meth ((Option.some Jvm.ClassFile.FieldType.boolean)) "isPlace" D B := ⟨CF, hret, hlk, hnm, hK, hSt⟩
    have hx := CF.1; have hb := CF.2.1
    have hL : th_L ls 1 [(0, .int x0)] := hL
    unfold tw_X0_isPlace at hw
    refine lv_iload_n hx hb dX0_isPlace_0 rfl (lv_at hL.1 0 rfl) ?_
    refine lv_iconst hx hb dX0_isPlace_1 (v := 0) rfl ?_
    refine lv_bipush hx hb dX0_isPlace_2 (v := 6) rfl ?_
    refine th_ki hS (th_rS CF hK hSt hR hS (rest := []) (tk_X0_within) (cw_X0_82 CF hK (by decide +kernel)) hw rfl hL.1.1 rfl th_cn (Nat.le_of_ble_eq_true rfl) dX0_isPlace_4 ⟨by show _ ≤ (0 : Nat); omega, by show _ ≤ (0 : Nat); omega⟩) (fun r2 G1 H locs hw hR hS => ?_)
    exact th_zret .boolean hx hb hret hw.1 hlk hR hS hw.2 (by omega) (by omega) dX0_isPlace_7)
def tw_X0_placeOf (Q : Int32 → aH → Prop) (G : aH) (a0 : Nat) (x1 : Int32) (x2 : Int32) : Prop :=
  (tw_X0_isPlace
    (fun (r2 : Int32) (G1 : aH) =>
      (¬ r2 = 0 →
        th_o G1 a0 0 ∧ (
        th_o G1 (a_mr G1 a0 0) 1 ∧ (
        th_ai G1 (a_mr G1 (a_mr G1 a0 0) 5) 8 x1 ∧ (
        ∀ a3_3 : Nat, a3_3 = a_mr G1 (a_mr G1 (a_mr G1 a0 0) 5) x1.toNatClampNeg → 
        (x2 = 0 →
          th_o G1 a3_3 7 ∧ (
          Q (a_mi G1 a3_3 0) G1)) ∧
        (x2 = 1 →
          th_o G1 a3_3 7 ∧ (
          Q (a_mi G1 a3_3 1) G1)) ∧
        (x2 = 2 →
          th_o G1 a3_3 7 ∧ (
          Q (a_mi G1 a3_3 2) G1)) ∧
        (x2 = 3 →
          th_o G1 a0 0 ∧ (
          th_o G1 (a_mr G1 a0 0) 1 ∧ (
          (¬ a_mi G1 (a_mr G1 a0 0) 6 = x1 →
            Q 0 G1) ∧
          (a_mi G1 (a_mr G1 a0 0) 6 = x1 →
            Q 1 G1)))) ∧
        (¬ x2 = 0 → ¬ x2 = 1 → ¬ x2 = 2 → ¬ x2 = 3 → 
          Q (-2) G1))))) ∧
      (r2 = 0 →
        Q (-1) G1))
    G x1)
theorem tk_X0_placeOf {l : Launch} {D : tD} {B : Nat} {Q : Int32 → aH → Prop} {a0 : Nat} {x1 : Int32} {x2 : Int32} : Met l yX0_placeOf (ws_ yX0_placeOf cX0_placeOf 4 ((Option.some Jvm.ClassFile.FieldType.int))) rm_X0_placeOf (th_P D B [rv a0, .int x1, .int x2] (fun G => tw_X0_placeOf Q G a0 x1 x2)) (th_Qi D B Q) 0 0 (th_A B) :=
  th_ofW (by decide +kernel) (th_cr (th_ci (th_ci th_cn))) (Nat.le_of_ble_eq_true rfl) (fun p e s m args below meth c CF hret hlk hnm hK hSt G ls hR hS hw hL => by
    have E : th_E p m c cX0_placeOf 4 s args RX0 meth ((Option.some Jvm.ClassFile.FieldType.int)) "placeOf" D B := ⟨CF, hret, hlk, hnm, hK, hSt⟩
    have hx := CF.1; have hb := CF.2.1
    have hL : th_L ls 4 [(0, rv a0), (1, .int x1), (2, .int x2)] := hL
    unfold tw_X0_placeOf at hw
    refine lv_iload_n hx hb dX0_placeOf_0 rfl (lv_at hL.1 1 rfl) ?_
    refine th_ki hS (th_rS CF hK hSt hR hS (rest := []) (tk_X0_isPlace) (cw_X0_265 CF hK (by decide +kernel)) hw rfl hL.1.1 rfl th_cn (Nat.le_of_ble_eq_true rfl) dX0_placeOf_1 ⟨by show _ ≤ (0 : Nat); omega, by show _ ≤ (0 : Nat); omega⟩) (fun r2 G1 H locs hw hR hS => ?_)
    refine lv_if_ne hx hb dX0_placeOf_4 (tgt := 9) (by decide) (fun h => ?_) (fun h => ?_)
    · replace hw := hw.1 h
      refine th_aload_n hx hb dX0_placeOf_9 rfl (lv_at hL.1 0 rfl) ?_
      obtain ⟨ho, hw⟩ := hw
      refine fg_X0_22 CF hK hR ho dX0_placeOf_10 ?_
      obtain ⟨ho, hw⟩ := hw
      refine fg_X0_241 CF hK hR ho dX0_placeOf_13 ?_
      refine lv_iload_n hx hb dX0_placeOf_16 rfl (lv_at hL.1 1 rfl) ?_
      obtain ⟨ha, hw⟩ := hw
      refine th_aald hx hb hK 8 (by decide) rfl rfl hR ha dX0_placeOf_17 ?_
      obtain ⟨a3_3, ha3_3⟩ : ∃ y : Nat, y = a_mr G1 (a_mr G1 (a_mr G1 a0 0) 5) x1.toNatClampNeg := ⟨_, rfl⟩
      replace hw := hw a3_3 ha3_3
      refine th_nmr ha3_3 ?_
      refine th_astore_n hx hb dX0_placeOf_18 rfl hL (by decide) rfl (fun ls hL => ?_)
      refine lv_iload_n hx hb dX0_placeOf_19 rfl (lv_at hL.1 3 rfl) ?_
      by_cases g0 : x2 = 0
      · replace hw := hw.1 g0
        refine lv_tableIn hx hb dX0_placeOf_20 (tgt := 52) (by rw [g0]; decide) (by rw [g0]; decide) (by rw [g0]; rfl) (by decide) ?_
        refine th_aload_n hx hb dX0_placeOf_52 rfl (lv_at hL.1 0 rfl) ?_
        obtain ⟨ho, hw⟩ := hw
        refine fg_X0_268 CF hK hR ho dX0_placeOf_53 ?_
        exact th_iret hx hb hret hlk hR hS hw (by omega) (by omega) dX0_placeOf_56
      by_cases g1 : x2 = 1
      · replace hw := hw.2.1 g1
        refine lv_tableIn hx hb dX0_placeOf_20 (tgt := 57) (by rw [g1]; decide) (by rw [g1]; decide) (by rw [g1]; rfl) (by decide) ?_
        refine th_aload_n hx hb dX0_placeOf_57 rfl (lv_at hL.1 0 rfl) ?_
        obtain ⟨ho, hw⟩ := hw
        refine fg_X0_245 CF hK hR ho dX0_placeOf_58 ?_
        exact th_iret hx hb hret hlk hR hS hw (by omega) (by omega) dX0_placeOf_61
      by_cases g2 : x2 = 2
      · replace hw := hw.2.2.1 g2
        refine lv_tableIn hx hb dX0_placeOf_20 (tgt := 62) (by rw [g2]; decide) (by rw [g2]; decide) (by rw [g2]; rfl) (by decide) ?_
        refine th_aload_n hx hb dX0_placeOf_62 rfl (lv_at hL.1 0 rfl) ?_
        obtain ⟨ho, hw⟩ := hw
        refine fg_X0_427 CF hK hR ho dX0_placeOf_63 ?_
        exact th_iret hx hb hret hlk hR hS hw (by omega) (by omega) dX0_placeOf_66
      by_cases g3 : x2 = 3
      · replace hw := hw.2.2.2.1 g3
        refine lv_tableIn hx hb dX0_placeOf_20 (tgt := 67) (by rw [g3]; decide) (by rw [g3]; decide) (by rw [g3]; rfl) (by decide) ?_
        refine th_aload_n hx hb dX0_placeOf_67 rfl (lv_at hL.1 1 rfl) ?_
        obtain ⟨ho, hw⟩ := hw
        refine fg_X0_22 CF hK hR ho dX0_placeOf_68 ?_
        obtain ⟨ho, hw⟩ := hw
        refine fg_X0_274 CF hK hR ho dX0_placeOf_71 ?_
        refine lv_iload_n hx hb dX0_placeOf_74 rfl (lv_at hL.1 2 rfl) ?_
        refine lv_icmp_ne hx hb dX0_placeOf_75 (tgt := 82) (by decide) (fun h => ?_) (fun h => ?_)
        · replace hw := hw.1 h
          refine lv_iconst hx hb dX0_placeOf_82 (v := 0) rfl ?_
          exact th_iret hx hb hret hlk hR hS hw (by omega) (by omega) dX0_placeOf_83
        · replace hw := hw.2 h
          refine lv_iconst hx hb dX0_placeOf_78 (v := 1) rfl ?_
          refine lv_goto hx hb dX0_placeOf_79 (tgt := 83) (by decide) ?_
          exact th_iret hx hb hret hlk hR hS hw (by omega) (by omega) dX0_placeOf_83
      replace hw := hw.2.2.2.2 g0 g1 g2 g3
      have w0 := th_sw g0 (k := 0) (by decide)
      have w1 := th_sw g1 (k := 1) (by decide)
      have w2 := th_sw g2 (k := 2) (by decide)
      have w3 := th_sw g3 (k := 3) (by decide)
      refine lv_tableOut hx hb dX0_placeOf_20 (tgt := 84) (by omega) (by decide) ?_
      refine lv_bipush hx hb dX0_placeOf_84 (v := (-2)) rfl ?_
      exact th_iret hx hb hret hlk hR hS hw (by omega) (by omega) dX0_placeOf_86
    · replace hw := hw.2 h
      refine lv_iconst hx hb dX0_placeOf_7 (v := (-1)) rfl ?_
      exact th_iret hx hb hret hlk hR hS hw (by omega) (by omega) dX0_placeOf_8)
def tw_X0_overPlaces_b4 (Q : Int32 → aH → Prop) : Nat → aH → Nat → Int32 → Int32 → Int32 → Prop := fun n => Nat.rec (motive := fun _ => aH → Nat → Int32 → Int32 → Int32 → Prop) (fun _ _ _ _ _ => False) (fun _ ih G a0 x1 x2 x3 =>
  (7 ≤ x3 →
    Q x2 G) ∧
  (¬ 7 ≤ x3 →
    th_o G a0 0 ∧ (
    (tw_X0_placeOf
      (fun (r2 : Int32) (G1 : aH) =>
        ∀ x2_3 : Int32, x2_3 = x2 + r2 → 
        ∀ x3_4 : Int32, x3_4 = x3 + 1 → 
        ih G1 a0 x1 x2_3 x3_4)
      G a0 x3 x1)))) n
theorem tws_X0_overPlaces_b4 (Q : Int32 → aH → Prop) (n : Nat) (G : aH) (a0 : Nat) (x1 : Int32) (x2 : Int32) (x3 : Int32) : tw_X0_overPlaces_b4 Q (n + 1) G a0 x1 x2 x3 = (
  (7 ≤ x3 →
    Q x2 G) ∧
  (¬ 7 ≤ x3 →
    th_o G a0 0 ∧ (
    (tw_X0_placeOf
      (fun (r2 : Int32) (G1 : aH) =>
        ∀ x2_3 : Int32, x2_3 = x2 + r2 → 
        ∀ x3_4 : Int32, x3_4 = x3 + 1 → 
        tw_X0_overPlaces_b4 Q n G1 a0 x1 x2_3 x3_4)
      G a0 x3 x1)))) := rfl
def tw_X0_overPlaces (Q : Int32 → aH → Prop) (G : aH) (a0 : Nat) (x1 : Int32) : Prop :=
  ∃ n9 : Nat, tw_X0_overPlaces_b4 Q n9 G a0 x1 0 0
theorem tk_X0_overPlaces_b4 {p : Program} {l : Launch} {e : Env} {s : State} {m : MethodId} {args : Array Value} {below : List Frame} {meth : Method} {c : Code} {D : tD} {B : Nat} (E : th_E p m c cX0_overPlaces 4 s args RX0 meth ((Option.some Jvm.ClassFile.FieldType.int)) "overPlaces" D B) {Q : Int32 → aH → Prop} : ∀ (n : Nat) {G : aH} {H : Heap} {locs : List Loc} {cells slots : Nat} {ls : Array Slot} {a0 : Nat} {x1 : Int32} {x2 : Int32} {x3 : Int32} (hR : th_H D B G H) (hS : va_S (th_A B) s.heap H locs) (hL : th_L ls 4 [(0, rv a0), (1, .int x1), (2, .int x2), (3, .int x3)]) (hw : tw_X0_overPlaces_b4 Q n G a0 x1 x2 x3) (hc : cells + (0) ≤ 0 ∧ slots + (0) ≤ 0), W p l e rm_X0_overPlaces s m args below meth c H locs cells slots (MQ below (th_Qi D B Q) args s 0 0 (th_A B)) (F0 m 4 ls []) := by
  have CF := E.1; have hx := CF.1; have hb := CF.2.1; have hret := E.2.1; have hlk := E.2.2.1; have hnm := E.2.2.2.1; have hK := E.2.2.2.2.1; have hSt := E.2.2.2.2.2
  intro n
  induction n with
  | zero => intro _ _ _ _ _ _ _ _ _ _ _ _ _ hw; exact hw.elim
  | succ n ih =>
    intro G H locs cells slots ls a0 x1 x2 x3 hR hS hL hw hc
    rw [tws_X0_overPlaces_b4] at hw
    refine lv_iload_n hx hb dX0_overPlaces_4 rfl (lv_at hL.1 3 rfl) ?_
    refine lv_bipush hx hb dX0_overPlaces_5 (v := 7) rfl ?_
    refine lv_icmp_ge hx hb dX0_overPlaces_7 (tgt := 25) (by decide) (fun h => ?_) (fun h => ?_)
    · replace hw := hw.1 h
      refine lv_iload_n hx hb dX0_overPlaces_25 rfl (lv_at hL.1 2 rfl) ?_
      exact th_iret hx hb hret hlk hR hS hw (by omega) (by omega) dX0_overPlaces_26
    · replace hw := hw.2 h
      refine lv_iload_n hx hb dX0_overPlaces_10 rfl (lv_at hL.1 2 rfl) ?_
      refine th_aload_n hx hb dX0_overPlaces_11 rfl (lv_at hL.1 0 rfl) ?_
      refine lv_iload_n hx hb dX0_overPlaces_12 rfl (lv_at hL.1 3 rfl) ?_
      refine lv_iload_n hx hb dX0_overPlaces_13 rfl (lv_at hL.1 1 rfl) ?_
      obtain ⟨ho, hw⟩ := hw
      refine th_ki hS (th_rV CF hK hSt hR hS ho (ci := 0) rfl (rest := [.int x2]) (tk_X0_placeOf) (cw_X0_457 CF hK (by decide +kernel)) hw rfl hL.1.1 rfl (th_ci th_cn) (Nat.le_of_ble_eq_true rfl) dX0_overPlaces_14 ⟨by show _ ≤ (0 : Nat); omega, by show _ ≤ (0 : Nat); omega⟩) (fun r2 G1 H locs hw hR hS => ?_)
      refine lv_iadd hx hb dX0_overPlaces_17 ?_
      obtain ⟨x2_3, hx2_3⟩ : ∃ y : Int32, y = x2 + r2 := ⟨_, rfl⟩
      replace hw := hw x2_3 hx2_3
      refine th_nmi hx2_3 ?_
      refine th_istore_n hx hb dX0_overPlaces_18 rfl hL (by decide) rfl (fun ls hL => ?_)
      obtain ⟨x3_4, hx3_4⟩ : ∃ y : Int32, y = x3 + 1 := ⟨_, rfl⟩
      replace hw := hw x3_4 hx3_4
      refine th_iinc hx hb dX0_overPlaces_19 hL (k := 3) rfl (v := x3_4) hx3_4.symm (by decide) rfl (fun ls hL => ?_)
      refine lv_goto hx hb dX0_overPlaces_22 (tgt := 4) (by decide) ?_
      exact ih hR hS (hL.sub [2, 3, 1, 0] rfl) hw ⟨by omega, by omega⟩
theorem tk_X0_overPlaces {l : Launch} {D : tD} {B : Nat} {Q : Int32 → aH → Prop} {a0 : Nat} {x1 : Int32} : Met l yX0_overPlaces (ws_ yX0_overPlaces cX0_overPlaces 4 ((Option.some Jvm.ClassFile.FieldType.int))) rm_X0_overPlaces (th_P D B [rv a0, .int x1] (fun G => tw_X0_overPlaces Q G a0 x1)) (th_Qi D B Q) 0 0 (th_A B) :=
  th_ofW (by decide +kernel) (th_cr (th_ci th_cn)) (Nat.le_of_ble_eq_true rfl) (fun p e s m args below meth c CF hret hlk hnm hK hSt G ls hR hS hw hL => by
    have E : th_E p m c cX0_overPlaces 4 s args RX0 meth ((Option.some Jvm.ClassFile.FieldType.int)) "overPlaces" D B := ⟨CF, hret, hlk, hnm, hK, hSt⟩
    have hx := CF.1; have hb := CF.2.1
    have hL : th_L ls 4 [(0, rv a0), (1, .int x1)] := hL
    unfold tw_X0_overPlaces at hw
    refine lv_iconst hx hb dX0_overPlaces_0 (v := 0) rfl ?_
    refine th_istore_n hx hb dX0_overPlaces_1 rfl hL (by decide) rfl (fun ls hL => ?_)
    refine lv_iconst hx hb dX0_overPlaces_2 (v := 0) rfl ?_
    refine th_istore_n hx hb dX0_overPlaces_3 rfl hL (by decide) rfl (fun ls hL => ?_)
    obtain ⟨n9, hw⟩ := hw
    exact tk_X0_overPlaces_b4 E n9 hR hS (hL.sub [2, 3, 1, 0] rfl) hw ⟨by omega, by omega⟩)
