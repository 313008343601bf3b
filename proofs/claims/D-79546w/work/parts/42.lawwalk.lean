/-! WALK of the law -/
set_option maxRecDepth 100000
def tw_L_law_b1227 (L : Nat) (xs : Nat → Int32) (k18 : aH → Nat → Nat → Int32 → Prop) (G : aH) (a1 : Nat) (a2 : Nat) (x3 : Int32) : Prop :=
  ∀ x3_11 : Int32, x3_11 = x3 + 4 → 
  k18 G a1 a2 x3_11
def tw_L_law_b1075 (L : Nat) (xs : Nat → Int32) (k18 : aH → Nat → Nat → Int32 → Prop) (G : aH) (a1 : Nat) (a2 : Nat) (x3 : Int32) : Prop :=
  tw_L_law_b1227 L xs k18 G a1 a2 x3
def tw_L_law_b1116 (L : Nat) (xs : Nat → Int32) (k18 : aH → Nat → Nat → Int32 → Prop) (G : aH) (a1 : Nat) (a2 : Nat) (x3 : Int32) : Prop :=
  tw_L_law_b1227 L xs k18 G a1 a2 x3
def tw_L_law_b18 (L : Nat) (xs : Nat → Int32) : Nat → aH → Nat → Nat → Int32 → Prop := fun n => Nat.rec (motive := fun _ => aH → Nat → Nat → Int32 → Prop) (fun _ _ _ _ => False) (fun _ ih G a1 a2 x3 =>
  ((Int32.ofNat L) - 4 < x3 →
    (1 : Int32) = 1) ∧
  (¬ (Int32.ofNat L) - 4 < x3 →
    vp_in x3 L ∧ (
    ((xs x3.toNatClampNeg) &&& 63 = 0 →
      th_o G a1 0 ∧ (
      (tw_X0_clear
        (fun (r8 : Int32) (G7 : aH) =>
          th_o G7 a2 8 ∧ (
          (tw_X8_clear
            (fun (r10 : Int32) (G9 : aH) =>
              (r8 = r10 →
                tw_L_law_b1227 L xs (ih) G9 a1 a2 x3) ∧
              (¬ r8 = r10 →
                (0 : Int32) = 1))
            G7 a2)))
        G a1))) ∧
    ((xs x3.toNatClampNeg) &&& 63 = 1 →
      vp_in (x3 + 1) L ∧ (
      th_o G a1 0 ∧ (
      (tw_X0_append
        (fun (r13 : Int32) (G12 : aH) =>
          vp_in (x3 + 1) L ∧ (
          th_o G12 a2 8 ∧ (
          (tw_X8_append
            (fun (r15 : Int32) (G14 : aH) =>
              (r13 = r15 →
                tw_L_law_b1227 L xs (ih) G14 a1 a2 x3) ∧
              (¬ r13 = r15 →
                (0 : Int32) = 1))
            G12 a2 (((xs (x3 + 1).toNatClampNeg).toUInt32 % 65536).toInt32)))))
        G a1 (((xs (x3 + 1).toNatClampNeg).toUInt32 % 65536).toInt32))))) ∧
    ((xs x3.toNatClampNeg) &&& 63 = 2 →
      vp_in (x3 + 1) L ∧ (
      th_o G a1 0 ∧ (
      (tw_X0_parish
        (fun (r17 : Int32) (G16 : aH) =>
          vp_in (x3 + 1) L ∧ (
          th_o G16 a2 8 ∧ (
          (tw_X8_parish
            (fun (r19 : Int32) (G18 : aH) =>
              (r17 = r19 →
                tw_L_law_b1227 L xs (ih) G18 a1 a2 x3) ∧
              (¬ r17 = r19 →
                (0 : Int32) = 1))
            G16 a2 (xs (x3 + 1).toNatClampNeg)))))
        G a1 (xs (x3 + 1).toNatClampNeg))))) ∧
    ((xs x3.toNatClampNeg) &&& 63 = 3 →
      vp_in (x3 + 1) L ∧ (
      vp_in (x3 + 2) L ∧ (
      th_o G a1 0 ∧ (
      (tw_X0_harvest
        (fun (r21 : Int32) (G20 : aH) =>
          vp_in (x3 + 1) L ∧ (
          vp_in (x3 + 2) L ∧ (
          th_o G20 a2 8 ∧ (
          (tw_X8_harvest
            (fun (r23 : Int32) (G22 : aH) =>
              (r21 = r23 →
                tw_L_law_b1227 L xs (ih) G22 a1 a2 x3) ∧
              (¬ r21 = r23 →
                (0 : Int32) = 1))
            G20 a2 (xs (x3 + 1).toNatClampNeg) (xs (x3 + 2).toNatClampNeg))))))
        G a1 (xs (x3 + 1).toNatClampNeg) (xs (x3 + 2).toNatClampNeg)))))) ∧
    ((xs x3.toNatClampNeg) &&& 63 = 4 →
      vp_in (x3 + 1) L ∧ (
      vp_in (x3 + 2) L ∧ (
      vp_in (x3 + 3) L ∧ (
      th_o G a1 0 ∧ (
      (tw_X0_cart
        (fun (r25 : Int32) (G24 : aH) =>
          vp_in (x3 + 1) L ∧ (
          vp_in (x3 + 2) L ∧ (
          vp_in (x3 + 3) L ∧ (
          th_o G24 a2 8 ∧ (
          (tw_X8_cart
            (fun (r27 : Int32) (G26 : aH) =>
              (r25 = r27 →
                tw_L_law_b1227 L xs (ih) G26 a1 a2 x3) ∧
              (¬ r25 = r27 →
                (0 : Int32) = 1))
            G24 a2 (xs (x3 + 1).toNatClampNeg) (xs (x3 + 2).toNatClampNeg) (xs (x3 + 3).toNatClampNeg)))))))
        G a1 (xs (x3 + 1).toNatClampNeg) (xs (x3 + 2).toNatClampNeg) (xs (x3 + 3).toNatClampNeg))))))) ∧
    ((xs x3.toNatClampNeg) &&& 63 = 5 →
      vp_in (x3 + 1) L ∧ (
      vp_in (x3 + 2) L ∧ (
      vp_in (x3 + 3) L ∧ (
      th_o G a1 0 ∧ (
      (tw_X0_thresh
        (fun (r29 : Int32) (G28 : aH) =>
          vp_in (x3 + 1) L ∧ (
          vp_in (x3 + 2) L ∧ (
          vp_in (x3 + 3) L ∧ (
          th_o G28 a2 8 ∧ (
          (tw_X8_thresh
            (fun (r31 : Int32) (G30 : aH) =>
              (r29 = r31 →
                tw_L_law_b1227 L xs (ih) G30 a1 a2 x3) ∧
              (¬ r29 = r31 →
                (0 : Int32) = 1))
            G28 a2 (xs (x3 + 1).toNatClampNeg) (xs (x3 + 2).toNatClampNeg) (xs (x3 + 3).toNatClampNeg)))))))
        G a1 (xs (x3 + 1).toNatClampNeg) (xs (x3 + 2).toNatClampNeg) (xs (x3 + 3).toNatClampNeg))))))) ∧
    ((xs x3.toNatClampNeg) &&& 63 = 6 →
      vp_in (x3 + 1) L ∧ (
      vp_in (x3 + 2) L ∧ (
      th_o G a1 0 ∧ (
      (tw_X0_flails
        (fun (r33 : Int32) (G32 : aH) =>
          vp_in (x3 + 1) L ∧ (
          vp_in (x3 + 2) L ∧ (
          th_o G32 a2 8 ∧ (
          (tw_X8_flails
            (fun (r35 : Int32) (G34 : aH) =>
              (r33 = r35 →
                tw_L_law_b1227 L xs (ih) G34 a1 a2 x3) ∧
              (¬ r33 = r35 →
                (0 : Int32) = 1))
            G32 a2 (xs (x3 + 1).toNatClampNeg) (xs (x3 + 2).toNatClampNeg))))))
        G a1 (xs (x3 + 1).toNatClampNeg) (xs (x3 + 2).toNatClampNeg)))))) ∧
    ((xs x3.toNatClampNeg) &&& 63 = 7 →
      vp_in (x3 + 1) L ∧ (
      vp_in (x3 + 2) L ∧ (
      th_o G a1 0 ∧ (
      (tw_X0_price
        (fun (r37 : Int32) (G36 : aH) =>
          vp_in (x3 + 1) L ∧ (
          vp_in (x3 + 2) L ∧ (
          th_o G36 a2 8 ∧ (
          (tw_X8_price
            (fun (r39 : Int32) (G38 : aH) =>
              (r37 = r39 →
                tw_L_law_b1227 L xs (ih) G38 a1 a2 x3) ∧
              (¬ r37 = r39 →
                (0 : Int32) = 1))
            G36 a2 (xs (x3 + 1).toNatClampNeg) (xs (x3 + 2).toNatClampNeg))))))
        G a1 (xs (x3 + 1).toNatClampNeg) (xs (x3 + 2).toNatClampNeg)))))) ∧
    ((xs x3.toNatClampNeg) &&& 63 = 8 →
      vp_in (x3 + 1) L ∧ (
      vp_in (x3 + 2) L ∧ (
      vp_in (x3 + 3) L ∧ (
      th_o G a1 0 ∧ (
      (tw_X0_sell
        (fun (r41 : Int32) (G40 : aH) =>
          vp_in (x3 + 1) L ∧ (
          vp_in (x3 + 2) L ∧ (
          vp_in (x3 + 3) L ∧ (
          th_o G40 a2 8 ∧ (
          (tw_X8_sell
            (fun (r43 : Int32) (G42 : aH) =>
              (r41 = r43 →
                tw_L_law_b1227 L xs (ih) G42 a1 a2 x3) ∧
              (¬ r41 = r43 →
                (0 : Int32) = 1))
            G40 a2 (xs (x3 + 1).toNatClampNeg) (xs (x3 + 2).toNatClampNeg) (xs (x3 + 3).toNatClampNeg)))))))
        G a1 (xs (x3 + 1).toNatClampNeg) (xs (x3 + 2).toNatClampNeg) (xs (x3 + 3).toNatClampNeg))))))) ∧
    ((xs x3.toNatClampNeg) &&& 63 = 9 →
      vp_in (x3 + 1) L ∧ (
      vp_in (x3 + 2) L ∧ (
      th_o G a1 0 ∧ (
      (tw_X0_settle
        (fun (r45 : Int32) (G44 : aH) =>
          vp_in (x3 + 1) L ∧ (
          vp_in (x3 + 2) L ∧ (
          th_o G44 a2 8 ∧ (
          (tw_X8_settle
            (fun (r47 : Int32) (G46 : aH) =>
              (r45 = r47 →
                tw_L_law_b1227 L xs (ih) G46 a1 a2 x3) ∧
              (¬ r45 = r47 →
                (0 : Int32) = 1))
            G44 a2 (xs (x3 + 1).toNatClampNeg) (xs (x3 + 2).toNatClampNeg))))))
        G a1 (xs (x3 + 1).toNatClampNeg) (xs (x3 + 2).toNatClampNeg)))))) ∧
    ((xs x3.toNatClampNeg) &&& 63 = 10 →
      vp_in (x3 + 1) L ∧ (
      th_o G a1 0 ∧ (
      (tw_X0_stop
        (fun (r49 : Int32) (G48 : aH) =>
          vp_in (x3 + 1) L ∧ (
          th_o G48 a2 8 ∧ (
          (tw_X8_stop
            (fun (r51 : Int32) (G50 : aH) =>
              (r49 = r51 →
                tw_L_law_b1227 L xs (ih) G50 a1 a2 x3) ∧
              (¬ r49 = r51 →
                (0 : Int32) = 1))
            G48 a2 (xs (x3 + 1).toNatClampNeg)))))
        G a1 (xs (x3 + 1).toNatClampNeg))))) ∧
    ((xs x3.toNatClampNeg) &&& 63 = 11 →
      vp_in (x3 + 1) L ∧ (
      th_o G a1 0 ∧ (
      (tw_X0_cat
        (fun (r53 : Int32) (G52 : aH) =>
          vp_in (x3 + 1) L ∧ (
          th_o G52 a2 8 ∧ (
          (tw_X8_cat
            (fun (r55 : Int32) (G54 : aH) =>
              (r53 = r55 →
                tw_L_law_b1227 L xs (ih) G54 a1 a2 x3) ∧
              (¬ r53 = r55 →
                (0 : Int32) = 1))
            G52 a2 (xs (x3 + 1).toNatClampNeg)))))
        G a1 (xs (x3 + 1).toNatClampNeg))))) ∧
    ((xs x3.toNatClampNeg) &&& 63 = 12 →
      vp_in (x3 + 1) L ∧ (
      th_o G a1 0 ∧ (
      (tw_X0_pass
        (fun (r57 : Int32) (G56 : aH) =>
          vp_in (x3 + 1) L ∧ (
          th_o G56 a2 8 ∧ (
          (tw_X8_pass
            (fun (r59 : Int32) (G58 : aH) =>
              (r57 = r59 →
                tw_L_law_b1227 L xs (ih) G58 a1 a2 x3) ∧
              (¬ r57 = r59 →
                (0 : Int32) = 1))
            G56 a2 (xs (x3 + 1).toNatClampNeg)))))
        G a1 (xs (x3 + 1).toNatClampNeg))))) ∧
    ((xs x3.toNatClampNeg) &&& 63 = 13 →
      th_o G a1 0 ∧ (
      (tw_X0_script
        (fun (r61 : Int32) (G60 : aH) =>
          th_o G60 a2 8 ∧ (
          (tw_X8_script
            (fun (r63 : Int32) (G62 : aH) =>
              (r61 = r63 →
                tw_L_law_b1227 L xs (ih) G62 a1 a2 x3) ∧
              (¬ r61 = r63 →
                (0 : Int32) = 1))
            G60 a2)))
        G a1))) ∧
    ((xs x3.toNatClampNeg) &&& 63 = 14 →
      th_o G a1 0 ∧ (
      (tw_X0_fault
        (fun (r65 : Int32) (G64 : aH) =>
          th_o G64 a2 8 ∧ (
          (tw_X8_fault
            (fun (r67 : Int32) (G66 : aH) =>
              (r65 = r67 →
                tw_L_law_b1227 L xs (ih) G66 a1 a2 x3) ∧
              (¬ r65 = r67 →
                (0 : Int32) = 1))
            G64 a2)))
        G a1))) ∧
    ((xs x3.toNatClampNeg) &&& 63 = 15 →
      vp_in (x3 + 1) L ∧ (
      vp_in (x3 + 2) L ∧ (
      th_o G a1 0 ∧ (
      (tw_X0_reason
        (fun (r69 : Int32) (G68 : aH) =>
          vp_in (x3 + 1) L ∧ (
          vp_in (x3 + 2) L ∧ (
          th_o G68 a2 8 ∧ (
          (tw_X8_reason
            (fun (r71 : Int32) (G70 : aH) =>
              (r69 = r71 →
                tw_L_law_b1227 L xs (ih) G70 a1 a2 x3) ∧
              (¬ r69 = r71 →
                (0 : Int32) = 1))
            G68 a2 (xs (x3 + 1).toNatClampNeg) (xs (x3 + 2).toNatClampNeg))))))
        G a1 (xs (x3 + 1).toNatClampNeg) (xs (x3 + 2).toNatClampNeg)))))) ∧
    ((xs x3.toNatClampNeg) &&& 63 = 16 →
      vp_in (x3 + 1) L ∧ (
      vp_in (x3 + 2) L ∧ (
      th_o G a1 0 ∧ (
      (tw_X0_parishOf
        (fun (r73 : Int32) (G72 : aH) =>
          vp_in (x3 + 1) L ∧ (
          vp_in (x3 + 2) L ∧ (
          th_o G72 a2 8 ∧ (
          (tw_X8_parishOf
            (fun (r75 : Int32) (G74 : aH) =>
              (r73 = r75 →
                tw_L_law_b1227 L xs (ih) G74 a1 a2 x3) ∧
              (¬ r73 = r75 →
                (0 : Int32) = 1))
            G72 a2 (xs (x3 + 1).toNatClampNeg) (xs (x3 + 2).toNatClampNeg))))))
        G a1 (xs (x3 + 1).toNatClampNeg) (xs (x3 + 2).toNatClampNeg)))))) ∧
    ((xs x3.toNatClampNeg) &&& 63 = 17 →
      vp_in (x3 + 1) L ∧ (
      vp_in (x3 + 2) L ∧ (
      th_o G a1 0 ∧ (
      (tw_X0_bayOf
        (fun (r77 : Int32) (G76 : aH) =>
          vp_in (x3 + 1) L ∧ (
          vp_in (x3 + 2) L ∧ (
          th_o G76 a2 8 ∧ (
          (tw_X8_bayOf
            (fun (r79 : Int32) (G78 : aH) =>
              (r77 = r79 →
                tw_L_law_b1227 L xs (ih) G78 a1 a2 x3) ∧
              (¬ r77 = r79 →
                (0 : Int32) = 1))
            G76 a2 (xs (x3 + 1).toNatClampNeg) (xs (x3 + 2).toNatClampNeg))))))
        G a1 (xs (x3 + 1).toNatClampNeg) (xs (x3 + 2).toNatClampNeg)))))) ∧
    ((xs x3.toNatClampNeg) &&& 63 = 18 →
      vp_in (x3 + 1) L ∧ (
      vp_in (x3 + 2) L ∧ (
      vp_in (x3 + 3) L ∧ (
      th_o G a1 0 ∧ (
      (tw_X0_lotOf
        (fun (r81 : Int32) (G80 : aH) =>
          vp_in (x3 + 1) L ∧ (
          vp_in (x3 + 2) L ∧ (
          vp_in (x3 + 3) L ∧ (
          th_o G80 a2 8 ∧ (
          (tw_X8_lotOf
            (fun (r83 : Int32) (G82 : aH) =>
              (r81 = r83 →
                tw_L_law_b1227 L xs (ih) G82 a1 a2 x3) ∧
              (¬ r81 = r83 →
                (0 : Int32) = 1))
            G80 a2 (xs (x3 + 1).toNatClampNeg) (xs (x3 + 2).toNatClampNeg) (xs (x3 + 3).toNatClampNeg)))))))
        G a1 (xs (x3 + 1).toNatClampNeg) (xs (x3 + 2).toNatClampNeg) (xs (x3 + 3).toNatClampNeg))))))) ∧
    ((xs x3.toNatClampNeg) &&& 63 = 19 →
      vp_in (x3 + 1) L ∧ (
      vp_in (x3 + 2) L ∧ (
      th_o G a1 0 ∧ (
      (tw_X0_floorOf
        (fun (r85 : Int32) (G84 : aH) =>
          vp_in (x3 + 1) L ∧ (
          vp_in (x3 + 2) L ∧ (
          th_o G84 a2 8 ∧ (
          (tw_X8_floorOf
            (fun (r87 : Int32) (G86 : aH) =>
              (r85 = r87 →
                tw_L_law_b1227 L xs (ih) G86 a1 a2 x3) ∧
              (¬ r85 = r87 →
                (0 : Int32) = 1))
            G84 a2 (xs (x3 + 1).toNatClampNeg) (xs (x3 + 2).toNatClampNeg))))))
        G a1 (xs (x3 + 1).toNatClampNeg) (xs (x3 + 2).toNatClampNeg)))))) ∧
    ((xs x3.toNatClampNeg) &&& 63 = 20 →
      vp_in (x3 + 1) L ∧ (
      vp_in (x3 + 2) L ∧ (
      th_o G a1 0 ∧ (
      (tw_X0_binOf
        (fun (r89 : Int32) (G88 : aH) =>
          vp_in (x3 + 1) L ∧ (
          vp_in (x3 + 2) L ∧ (
          th_o G88 a2 8 ∧ (
          (tw_X8_binOf
            (fun (r91 : Int32) (G90 : aH) =>
              (r89 = r91 →
                tw_L_law_b1227 L xs (ih) G90 a1 a2 x3) ∧
              (¬ r89 = r91 →
                (0 : Int32) = 1))
            G88 a2 (xs (x3 + 1).toNatClampNeg) (xs (x3 + 2).toNatClampNeg))))))
        G a1 (xs (x3 + 1).toNatClampNeg) (xs (x3 + 2).toNatClampNeg)))))) ∧
    ((xs x3.toNatClampNeg) &&& 63 = 21 →
      vp_in (x3 + 1) L ∧ (
      vp_in (x3 + 2) L ∧ (
      th_o G a1 0 ∧ (
      (tw_X0_placeOf
        (fun (r93 : Int32) (G92 : aH) =>
          vp_in (x3 + 1) L ∧ (
          vp_in (x3 + 2) L ∧ (
          th_o G92 a2 8 ∧ (
          (tw_X8_placeOf
            (fun (r95 : Int32) (G94 : aH) =>
              (r93 = r95 →
                tw_L_law_b1227 L xs (ih) G94 a1 a2 x3) ∧
              (¬ r93 = r95 →
                (0 : Int32) = 1))
            G92 a2 (xs (x3 + 1).toNatClampNeg) (xs (x3 + 2).toNatClampNeg))))))
        G a1 (xs (x3 + 1).toNatClampNeg) (xs (x3 + 2).toNatClampNeg)))))) ∧
    ((xs x3.toNatClampNeg) &&& 63 = 22 →
      vp_in (x3 + 1) L ∧ (
      vp_in (x3 + 2) L ∧ (
      th_o G a1 0 ∧ (
      (tw_X0_tithe
        (fun (r97 : Int32) (G96 : aH) =>
          vp_in (x3 + 1) L ∧ (
          vp_in (x3 + 2) L ∧ (
          th_o G96 a2 8 ∧ (
          (tw_X8_tithe
            (fun (r99 : Int32) (G98 : aH) =>
              (r97 = r99 →
                tw_L_law_b1227 L xs (ih) G98 a1 a2 x3) ∧
              (¬ r97 = r99 →
                (0 : Int32) = 1))
            G96 a2 (xs (x3 + 1).toNatClampNeg) (xs (x3 + 2).toNatClampNeg))))))
        G a1 (xs (x3 + 1).toNatClampNeg) (xs (x3 + 2).toNatClampNeg)))))) ∧
    ((xs x3.toNatClampNeg) &&& 63 = 23 →
      vp_in (x3 + 1) L ∧ (
      vp_in (x3 + 2) L ∧ (
      th_o G a1 0 ∧ (
      (tw_X0_titheAgain
        (fun (r101 : Int32) (G100 : aH) =>
          vp_in (x3 + 1) L ∧ (
          vp_in (x3 + 2) L ∧ (
          th_o G100 a2 8 ∧ (
          (tw_X8_titheAgain
            (fun (r103 : Int32) (G102 : aH) =>
              (r101 = r103 →
                tw_L_law_b1227 L xs (ih) G102 a1 a2 x3) ∧
              (¬ r101 = r103 →
                (0 : Int32) = 1))
            G100 a2 (xs (x3 + 1).toNatClampNeg) (xs (x3 + 2).toNatClampNeg))))))
        G a1 (xs (x3 + 1).toNatClampNeg) (xs (x3 + 2).toNatClampNeg)))))) ∧
    ((xs x3.toNatClampNeg) &&& 63 = 24 →
      vp_in (x3 + 1) L ∧ (
      th_o G a1 0 ∧ (
      (tw_X0_lasts
        (fun (r105 : Int32) (G104 : aH) =>
          vp_in (x3 + 1) L ∧ (
          th_o G104 a2 8 ∧ (
          (tw_X8_lasts
            (fun (r107 : Int32) (G106 : aH) =>
              (r105 = r107 →
                tw_L_law_b1227 L xs (ih) G106 a1 a2 x3) ∧
              (¬ r105 = r107 →
                (0 : Int32) = 1))
            G104 a2 (xs (x3 + 1).toNatClampNeg)))))
        G a1 (xs (x3 + 1).toNatClampNeg))))) ∧
    ((xs x3.toNatClampNeg) &&& 63 = 25 →
      vp_in (x3 + 1) L ∧ (
      th_o G a1 0 ∧ (
      (tw_X0_bestCat
        (fun (r109 : Int32) (G108 : aH) =>
          vp_in (x3 + 1) L ∧ (
          th_o G108 a2 8 ∧ (
          (tw_X8_bestCat
            (fun (r111 : Int32) (G110 : aH) =>
              (r109 = r111 →
                tw_L_law_b1227 L xs (ih) G110 a1 a2 x3) ∧
              (¬ r109 = r111 →
                (0 : Int32) = 1))
            G108 a2 (xs (x3 + 1).toNatClampNeg)))))
        G a1 (xs (x3 + 1).toNatClampNeg))))) ∧
    ((xs x3.toNatClampNeg) &&& 63 = 26 →
      vp_in (x3 + 1) L ∧ (
      th_o G a1 0 ∧ (
      (tw_X0_ranked
        (fun (r113 : Int32) (G112 : aH) =>
          vp_in (x3 + 1) L ∧ (
          th_o G112 a2 8 ∧ (
          (tw_X8_ranked
            (fun (r115 : Int32) (G114 : aH) =>
              (r113 = r115 →
                tw_L_law_b1227 L xs (ih) G114 a1 a2 x3) ∧
              (¬ r113 = r115 →
                (0 : Int32) = 1))
            G112 a2 (xs (x3 + 1).toNatClampNeg)))))
        G a1 (xs (x3 + 1).toNatClampNeg))))) ∧
    ((xs x3.toNatClampNeg) &&& 63 = 27 →
      vp_in (x3 + 1) L ∧ (
      th_o G a1 0 ∧ (
      (tw_X0_grain
        (fun (r117 : Int32) (G116 : aH) =>
          vp_in (x3 + 1) L ∧ (
          th_o G116 a2 8 ∧ (
          (tw_X8_grain
            (fun (r119 : Int32) (G118 : aH) =>
              (r117 = r119 →
                tw_L_law_b1227 L xs (ih) G118 a1 a2 x3) ∧
              (¬ r117 = r119 →
                (0 : Int32) = 1))
            G116 a2 (xs (x3 + 1).toNatClampNeg)))))
        G a1 (xs (x3 + 1).toNatClampNeg))))) ∧
    ((xs x3.toNatClampNeg) &&& 63 = 28 →
      th_o G a1 0 ∧ (
      (tw_X0_grainAgain
        (fun (r121 : Int32) (G120 : aH) =>
          th_o G120 a2 8 ∧ (
          (tw_X8_grainAgain
            (fun (r123 : Int32) (G122 : aH) =>
              (r121 = r123 →
                tw_L_law_b1227 L xs (ih) G122 a1 a2 x3) ∧
              (¬ r121 = r123 →
                (0 : Int32) = 1))
            G120 a2)))
        G a1))) ∧
    ((xs x3.toNatClampNeg) &&& 63 = 29 →
      vp_in (x3 + 1) L ∧ (
      th_o G a1 0 ∧ (
      (tw_X0_share
        (fun (f125 : UInt32) (G124 : aH) =>
          vf_n64 (FP.f2d f125) ∧ (
          ∀ d126 : UInt64, d126 = FP.f2d f125 → 
          vp_in (x3 + 1) L ∧ (
          th_o G124 a2 8 ∧ (
          (tw_X8_share
            (fun (f128 : UInt32) (G127 : aH) =>
              vf_n64 (FP.f2d f128) ∧ (
              ∀ d129 : UInt64, d129 = FP.f2d f128 → 
              (Op.cmpValue (FP.dcmp d126 d129) .l = 0 →
                tw_L_law_b1075 L xs (ih) G127 a1 a2 x3) ∧
              (¬ Op.cmpValue (FP.dcmp d126 d129) .l = 0 →
                (Op.cmpValue (FP.dcmp d126 d126) .l = 0 →
                  (0 : Int32) = 1) ∧
                (¬ Op.cmpValue (FP.dcmp d126 d126) .l = 0 →
                  (¬ Op.cmpValue (FP.dcmp d129 d129) .l = 0 →
                    tw_L_law_b1075 L xs (ih) G127 a1 a2 x3) ∧
                  (Op.cmpValue (FP.dcmp d129 d129) .l = 0 →
                    (0 : Int32) = 1)))))
            G124 a2 (xs (x3 + 1).toNatClampNeg))))))
        G a1 (xs (x3 + 1).toNatClampNeg))))) ∧
    ((xs x3.toNatClampNeg) &&& 63 = 30 →
      th_o G a1 0 ∧ (
      (tw_X0_meanRats
        (fun (d131 : UInt64) (G130 : aH) =>
          ∀ d132 : UInt64, d132 = d131 → 
          th_o G130 a2 8 ∧ (
          (tw_X8_meanRats
            (fun (d134 : UInt64) (G133 : aH) =>
              ∀ d135 : UInt64, d135 = d134 → 
              (Op.cmpValue (FP.dcmp d132 d135) .l = 0 →
                tw_L_law_b1116 L xs (ih) G133 a1 a2 x3) ∧
              (¬ Op.cmpValue (FP.dcmp d132 d135) .l = 0 →
                (Op.cmpValue (FP.dcmp d132 d132) .l = 0 →
                  (0 : Int32) = 1) ∧
                (¬ Op.cmpValue (FP.dcmp d132 d132) .l = 0 →
                  (¬ Op.cmpValue (FP.dcmp d135 d135) .l = 0 →
                    tw_L_law_b1116 L xs (ih) G133 a1 a2 x3) ∧
                  (Op.cmpValue (FP.dcmp d135 d135) .l = 0 →
                    (0 : Int32) = 1))))
            G130 a2)))
        G a1))) ∧
    ((xs x3.toNatClampNeg) &&& 63 = 31 →
      vp_in (x3 + 1) L ∧ (
      th_o G a1 0 ∧ (
      (tw_X0_describe
        (fun (r137 : Int32) (G136 : aH) =>
          vp_in (x3 + 1) L ∧ (
          th_o G136 a2 8 ∧ (
          (tw_X8_describe
            (fun (r139 : Int32) (G138 : aH) =>
              (r137 = r139 →
                tw_L_law_b1227 L xs (ih) G138 a1 a2 x3) ∧
              (¬ r137 = r139 →
                (0 : Int32) = 1))
            G136 a2 (xs (x3 + 1).toNatClampNeg)))))
        G a1 (xs (x3 + 1).toNatClampNeg))))) ∧
    ((xs x3.toNatClampNeg) &&& 63 = 32 →
      vp_in (x3 + 1) L ∧ (
      th_o G a1 0 ∧ (
      (tw_X0_written
        (fun (r141 : Int32) (G140 : aH) =>
          vp_in (x3 + 1) L ∧ (
          th_o G140 a2 8 ∧ (
          (tw_X8_written
            (fun (r143 : Int32) (G142 : aH) =>
              (r141 = r143 →
                tw_L_law_b1227 L xs (ih) G142 a1 a2 x3) ∧
              (¬ r141 = r143 →
                (0 : Int32) = 1))
            G140 a2 (xs (x3 + 1).toNatClampNeg)))))
        G a1 (xs (x3 + 1).toNatClampNeg))))) ∧
    ((xs x3.toNatClampNeg) &&& 63 = 33 →
      vp_in (x3 + 1) L ∧ (
      th_o G a1 0 ∧ (
      (tw_X0_account
        (fun (r145 : Int32) (G144 : aH) =>
          vp_in (x3 + 1) L ∧ (
          th_o G144 a2 8 ∧ (
          (tw_X8_account
            (fun (r147 : Int32) (G146 : aH) =>
              (r145 = r147 →
                tw_L_law_b1227 L xs (ih) G146 a1 a2 x3) ∧
              (¬ r145 = r147 →
                (0 : Int32) = 1))
            G144 a2 (xs (x3 + 1).toNatClampNeg)))))
        G a1 (xs (x3 + 1).toNatClampNeg))))) ∧
    ((xs x3.toNatClampNeg) &&& 63 = 34 →
      th_o G a1 0 ∧ (
      (tw_X0_undo
        (fun (r149 : Int32) (G148 : aH) =>
          th_o G148 a2 8 ∧ (
          (tw_X8_undo
            (fun (r151 : Int32) (G150 : aH) =>
              (r149 = r151 →
                tw_L_law_b1227 L xs (ih) G150 a1 a2 x3) ∧
              (¬ r149 = r151 →
                (0 : Int32) = 1))
            G148 a2)))
        G a1))) ∧
    ((xs x3.toNatClampNeg) &&& 63 = 35 →
      th_o G a1 0 ∧ (
      (tw_X0_save
        (fun (r153 : Int32) (G152 : aH) =>
          th_o G152 a2 8 ∧ (
          (tw_X8_save
            (fun (r155 : Int32) (G154 : aH) =>
              (r153 = r155 →
                tw_L_law_b1227 L xs (ih) G154 a1 a2 x3) ∧
              (¬ r153 = r155 →
                (0 : Int32) = 1))
            G152 a2)))
        G a1))) ∧
    ((xs x3.toNatClampNeg) &&& 63 = 36 →
      th_o G a1 0 ∧ (
      (tw_X0_restore
        (fun (r157 : Int32) (G156 : aH) =>
          th_o G156 a2 8 ∧ (
          (tw_X8_restore
            (fun (r159 : Int32) (G158 : aH) =>
              (r157 = r159 →
                tw_L_law_b1227 L xs (ih) G158 a1 a2 x3) ∧
              (¬ r157 = r159 →
                (0 : Int32) = 1))
            G156 a2)))
        G a1))) ∧
    (¬ (xs x3.toNatClampNeg) &&& 63 = 0 → ¬ (xs x3.toNatClampNeg) &&& 63 = 1 → ¬ (xs x3.toNatClampNeg) &&& 63 = 2 → ¬ (xs x3.toNatClampNeg) &&& 63 = 3 → ¬ (xs x3.toNatClampNeg) &&& 63 = 4 → ¬ (xs x3.toNatClampNeg) &&& 63 = 5 → ¬ (xs x3.toNatClampNeg) &&& 63 = 6 → ¬ (xs x3.toNatClampNeg) &&& 63 = 7 → ¬ (xs x3.toNatClampNeg) &&& 63 = 8 → ¬ (xs x3.toNatClampNeg) &&& 63 = 9 → ¬ (xs x3.toNatClampNeg) &&& 63 = 10 → ¬ (xs x3.toNatClampNeg) &&& 63 = 11 → ¬ (xs x3.toNatClampNeg) &&& 63 = 12 → ¬ (xs x3.toNatClampNeg) &&& 63 = 13 → ¬ (xs x3.toNatClampNeg) &&& 63 = 14 → ¬ (xs x3.toNatClampNeg) &&& 63 = 15 → ¬ (xs x3.toNatClampNeg) &&& 63 = 16 → ¬ (xs x3.toNatClampNeg) &&& 63 = 17 → ¬ (xs x3.toNatClampNeg) &&& 63 = 18 → ¬ (xs x3.toNatClampNeg) &&& 63 = 19 → ¬ (xs x3.toNatClampNeg) &&& 63 = 20 → ¬ (xs x3.toNatClampNeg) &&& 63 = 21 → ¬ (xs x3.toNatClampNeg) &&& 63 = 22 → ¬ (xs x3.toNatClampNeg) &&& 63 = 23 → ¬ (xs x3.toNatClampNeg) &&& 63 = 24 → ¬ (xs x3.toNatClampNeg) &&& 63 = 25 → ¬ (xs x3.toNatClampNeg) &&& 63 = 26 → ¬ (xs x3.toNatClampNeg) &&& 63 = 27 → ¬ (xs x3.toNatClampNeg) &&& 63 = 28 → ¬ (xs x3.toNatClampNeg) &&& 63 = 29 → ¬ (xs x3.toNatClampNeg) &&& 63 = 30 → ¬ (xs x3.toNatClampNeg) &&& 63 = 31 → ¬ (xs x3.toNatClampNeg) &&& 63 = 32 → ¬ (xs x3.toNatClampNeg) &&& 63 = 33 → ¬ (xs x3.toNatClampNeg) &&& 63 = 34 → ¬ (xs x3.toNatClampNeg) &&& 63 = 35 → ¬ (xs x3.toNatClampNeg) &&& 63 = 36 → 
      tw_L_law_b1227 L xs (ih) G a1 a2 x3)))) n
theorem tws_L_law_b18 (L : Nat) (xs : Nat → Int32) (n : Nat) (G : aH) (a1 : Nat) (a2 : Nat) (x3 : Int32) : tw_L_law_b18 L xs (n + 1) G a1 a2 x3 = (
  ((Int32.ofNat L) - 4 < x3 →
    (1 : Int32) = 1) ∧
  (¬ (Int32.ofNat L) - 4 < x3 →
    vp_in x3 L ∧ (
    ((xs x3.toNatClampNeg) &&& 63 = 0 →
      th_o G a1 0 ∧ (
      (tw_X0_clear
        (fun (r8 : Int32) (G7 : aH) =>
          th_o G7 a2 8 ∧ (
          (tw_X8_clear
            (fun (r10 : Int32) (G9 : aH) =>
              (r8 = r10 →
                tw_L_law_b1227 L xs (tw_L_law_b18 L xs n) G9 a1 a2 x3) ∧
              (¬ r8 = r10 →
                (0 : Int32) = 1))
            G7 a2)))
        G a1))) ∧
    ((xs x3.toNatClampNeg) &&& 63 = 1 →
      vp_in (x3 + 1) L ∧ (
      th_o G a1 0 ∧ (
      (tw_X0_append
        (fun (r13 : Int32) (G12 : aH) =>
          vp_in (x3 + 1) L ∧ (
          th_o G12 a2 8 ∧ (
          (tw_X8_append
            (fun (r15 : Int32) (G14 : aH) =>
              (r13 = r15 →
                tw_L_law_b1227 L xs (tw_L_law_b18 L xs n) G14 a1 a2 x3) ∧
              (¬ r13 = r15 →
                (0 : Int32) = 1))
            G12 a2 (((xs (x3 + 1).toNatClampNeg).toUInt32 % 65536).toInt32)))))
        G a1 (((xs (x3 + 1).toNatClampNeg).toUInt32 % 65536).toInt32))))) ∧
    ((xs x3.toNatClampNeg) &&& 63 = 2 →
      vp_in (x3 + 1) L ∧ (
      th_o G a1 0 ∧ (
      (tw_X0_parish
        (fun (r17 : Int32) (G16 : aH) =>
          vp_in (x3 + 1) L ∧ (
          th_o G16 a2 8 ∧ (
          (tw_X8_parish
            (fun (r19 : Int32) (G18 : aH) =>
              (r17 = r19 →
                tw_L_law_b1227 L xs (tw_L_law_b18 L xs n) G18 a1 a2 x3) ∧
              (¬ r17 = r19 →
                (0 : Int32) = 1))
            G16 a2 (xs (x3 + 1).toNatClampNeg)))))
        G a1 (xs (x3 + 1).toNatClampNeg))))) ∧
    ((xs x3.toNatClampNeg) &&& 63 = 3 →
      vp_in (x3 + 1) L ∧ (
      vp_in (x3 + 2) L ∧ (
      th_o G a1 0 ∧ (
      (tw_X0_harvest
        (fun (r21 : Int32) (G20 : aH) =>
          vp_in (x3 + 1) L ∧ (
          vp_in (x3 + 2) L ∧ (
          th_o G20 a2 8 ∧ (
          (tw_X8_harvest
            (fun (r23 : Int32) (G22 : aH) =>
              (r21 = r23 →
                tw_L_law_b1227 L xs (tw_L_law_b18 L xs n) G22 a1 a2 x3) ∧
              (¬ r21 = r23 →
                (0 : Int32) = 1))
            G20 a2 (xs (x3 + 1).toNatClampNeg) (xs (x3 + 2).toNatClampNeg))))))
        G a1 (xs (x3 + 1).toNatClampNeg) (xs (x3 + 2).toNatClampNeg)))))) ∧
    ((xs x3.toNatClampNeg) &&& 63 = 4 →
      vp_in (x3 + 1) L ∧ (
      vp_in (x3 + 2) L ∧ (
      vp_in (x3 + 3) L ∧ (
      th_o G a1 0 ∧ (
      (tw_X0_cart
        (fun (r25 : Int32) (G24 : aH) =>
          vp_in (x3 + 1) L ∧ (
          vp_in (x3 + 2) L ∧ (
          vp_in (x3 + 3) L ∧ (
          th_o G24 a2 8 ∧ (
          (tw_X8_cart
            (fun (r27 : Int32) (G26 : aH) =>
              (r25 = r27 →
                tw_L_law_b1227 L xs (tw_L_law_b18 L xs n) G26 a1 a2 x3) ∧
              (¬ r25 = r27 →
                (0 : Int32) = 1))
            G24 a2 (xs (x3 + 1).toNatClampNeg) (xs (x3 + 2).toNatClampNeg) (xs (x3 + 3).toNatClampNeg)))))))
        G a1 (xs (x3 + 1).toNatClampNeg) (xs (x3 + 2).toNatClampNeg) (xs (x3 + 3).toNatClampNeg))))))) ∧
    ((xs x3.toNatClampNeg) &&& 63 = 5 →
      vp_in (x3 + 1) L ∧ (
      vp_in (x3 + 2) L ∧ (
      vp_in (x3 + 3) L ∧ (
      th_o G a1 0 ∧ (
      (tw_X0_thresh
        (fun (r29 : Int32) (G28 : aH) =>
          vp_in (x3 + 1) L ∧ (
          vp_in (x3 + 2) L ∧ (
          vp_in (x3 + 3) L ∧ (
          th_o G28 a2 8 ∧ (
          (tw_X8_thresh
            (fun (r31 : Int32) (G30 : aH) =>
              (r29 = r31 →
                tw_L_law_b1227 L xs (tw_L_law_b18 L xs n) G30 a1 a2 x3) ∧
              (¬ r29 = r31 →
                (0 : Int32) = 1))
            G28 a2 (xs (x3 + 1).toNatClampNeg) (xs (x3 + 2).toNatClampNeg) (xs (x3 + 3).toNatClampNeg)))))))
        G a1 (xs (x3 + 1).toNatClampNeg) (xs (x3 + 2).toNatClampNeg) (xs (x3 + 3).toNatClampNeg))))))) ∧
    ((xs x3.toNatClampNeg) &&& 63 = 6 →
      vp_in (x3 + 1) L ∧ (
      vp_in (x3 + 2) L ∧ (
      th_o G a1 0 ∧ (
      (tw_X0_flails
        (fun (r33 : Int32) (G32 : aH) =>
          vp_in (x3 + 1) L ∧ (
          vp_in (x3 + 2) L ∧ (
          th_o G32 a2 8 ∧ (
          (tw_X8_flails
            (fun (r35 : Int32) (G34 : aH) =>
              (r33 = r35 →
                tw_L_law_b1227 L xs (tw_L_law_b18 L xs n) G34 a1 a2 x3) ∧
              (¬ r33 = r35 →
                (0 : Int32) = 1))
            G32 a2 (xs (x3 + 1).toNatClampNeg) (xs (x3 + 2).toNatClampNeg))))))
        G a1 (xs (x3 + 1).toNatClampNeg) (xs (x3 + 2).toNatClampNeg)))))) ∧
    ((xs x3.toNatClampNeg) &&& 63 = 7 →
      vp_in (x3 + 1) L ∧ (
      vp_in (x3 + 2) L ∧ (
      th_o G a1 0 ∧ (
      (tw_X0_price
        (fun (r37 : Int32) (G36 : aH) =>
          vp_in (x3 + 1) L ∧ (
          vp_in (x3 + 2) L ∧ (
          th_o G36 a2 8 ∧ (
          (tw_X8_price
            (fun (r39 : Int32) (G38 : aH) =>
              (r37 = r39 →
                tw_L_law_b1227 L xs (tw_L_law_b18 L xs n) G38 a1 a2 x3) ∧
              (¬ r37 = r39 →
                (0 : Int32) = 1))
            G36 a2 (xs (x3 + 1).toNatClampNeg) (xs (x3 + 2).toNatClampNeg))))))
        G a1 (xs (x3 + 1).toNatClampNeg) (xs (x3 + 2).toNatClampNeg)))))) ∧
    ((xs x3.toNatClampNeg) &&& 63 = 8 →
      vp_in (x3 + 1) L ∧ (
      vp_in (x3 + 2) L ∧ (
      vp_in (x3 + 3) L ∧ (
      th_o G a1 0 ∧ (
      (tw_X0_sell
        (fun (r41 : Int32) (G40 : aH) =>
          vp_in (x3 + 1) L ∧ (
          vp_in (x3 + 2) L ∧ (
          vp_in (x3 + 3) L ∧ (
          th_o G40 a2 8 ∧ (
          (tw_X8_sell
            (fun (r43 : Int32) (G42 : aH) =>
              (r41 = r43 →
                tw_L_law_b1227 L xs (tw_L_law_b18 L xs n) G42 a1 a2 x3) ∧
              (¬ r41 = r43 →
                (0 : Int32) = 1))
            G40 a2 (xs (x3 + 1).toNatClampNeg) (xs (x3 + 2).toNatClampNeg) (xs (x3 + 3).toNatClampNeg)))))))
        G a1 (xs (x3 + 1).toNatClampNeg) (xs (x3 + 2).toNatClampNeg) (xs (x3 + 3).toNatClampNeg))))))) ∧
    ((xs x3.toNatClampNeg) &&& 63 = 9 →
      vp_in (x3 + 1) L ∧ (
      vp_in (x3 + 2) L ∧ (
      th_o G a1 0 ∧ (
      (tw_X0_settle
        (fun (r45 : Int32) (G44 : aH) =>
          vp_in (x3 + 1) L ∧ (
          vp_in (x3 + 2) L ∧ (
          th_o G44 a2 8 ∧ (
          (tw_X8_settle
            (fun (r47 : Int32) (G46 : aH) =>
              (r45 = r47 →
                tw_L_law_b1227 L xs (tw_L_law_b18 L xs n) G46 a1 a2 x3) ∧
              (¬ r45 = r47 →
                (0 : Int32) = 1))
            G44 a2 (xs (x3 + 1).toNatClampNeg) (xs (x3 + 2).toNatClampNeg))))))
        G a1 (xs (x3 + 1).toNatClampNeg) (xs (x3 + 2).toNatClampNeg)))))) ∧
    ((xs x3.toNatClampNeg) &&& 63 = 10 →
      vp_in (x3 + 1) L ∧ (
      th_o G a1 0 ∧ (
      (tw_X0_stop
        (fun (r49 : Int32) (G48 : aH) =>
          vp_in (x3 + 1) L ∧ (
          th_o G48 a2 8 ∧ (
          (tw_X8_stop
            (fun (r51 : Int32) (G50 : aH) =>
              (r49 = r51 →
                tw_L_law_b1227 L xs (tw_L_law_b18 L xs n) G50 a1 a2 x3) ∧
              (¬ r49 = r51 →
                (0 : Int32) = 1))
            G48 a2 (xs (x3 + 1).toNatClampNeg)))))
        G a1 (xs (x3 + 1).toNatClampNeg))))) ∧
    ((xs x3.toNatClampNeg) &&& 63 = 11 →
      vp_in (x3 + 1) L ∧ (
      th_o G a1 0 ∧ (
      (tw_X0_cat
        (fun (r53 : Int32) (G52 : aH) =>
          vp_in (x3 + 1) L ∧ (
          th_o G52 a2 8 ∧ (
          (tw_X8_cat
            (fun (r55 : Int32) (G54 : aH) =>
              (r53 = r55 →
                tw_L_law_b1227 L xs (tw_L_law_b18 L xs n) G54 a1 a2 x3) ∧
              (¬ r53 = r55 →
                (0 : Int32) = 1))
            G52 a2 (xs (x3 + 1).toNatClampNeg)))))
        G a1 (xs (x3 + 1).toNatClampNeg))))) ∧
    ((xs x3.toNatClampNeg) &&& 63 = 12 →
      vp_in (x3 + 1) L ∧ (
      th_o G a1 0 ∧ (
      (tw_X0_pass
        (fun (r57 : Int32) (G56 : aH) =>
          vp_in (x3 + 1) L ∧ (
          th_o G56 a2 8 ∧ (
          (tw_X8_pass
            (fun (r59 : Int32) (G58 : aH) =>
              (r57 = r59 →
                tw_L_law_b1227 L xs (tw_L_law_b18 L xs n) G58 a1 a2 x3) ∧
              (¬ r57 = r59 →
                (0 : Int32) = 1))
            G56 a2 (xs (x3 + 1).toNatClampNeg)))))
        G a1 (xs (x3 + 1).toNatClampNeg))))) ∧
    ((xs x3.toNatClampNeg) &&& 63 = 13 →
      th_o G a1 0 ∧ (
      (tw_X0_script
        (fun (r61 : Int32) (G60 : aH) =>
          th_o G60 a2 8 ∧ (
          (tw_X8_script
            (fun (r63 : Int32) (G62 : aH) =>
              (r61 = r63 →
                tw_L_law_b1227 L xs (tw_L_law_b18 L xs n) G62 a1 a2 x3) ∧
              (¬ r61 = r63 →
                (0 : Int32) = 1))
            G60 a2)))
        G a1))) ∧
    ((xs x3.toNatClampNeg) &&& 63 = 14 →
      th_o G a1 0 ∧ (
      (tw_X0_fault
        (fun (r65 : Int32) (G64 : aH) =>
          th_o G64 a2 8 ∧ (
          (tw_X8_fault
            (fun (r67 : Int32) (G66 : aH) =>
              (r65 = r67 →
                tw_L_law_b1227 L xs (tw_L_law_b18 L xs n) G66 a1 a2 x3) ∧
              (¬ r65 = r67 →
                (0 : Int32) = 1))
            G64 a2)))
        G a1))) ∧
    ((xs x3.toNatClampNeg) &&& 63 = 15 →
      vp_in (x3 + 1) L ∧ (
      vp_in (x3 + 2) L ∧ (
      th_o G a1 0 ∧ (
      (tw_X0_reason
        (fun (r69 : Int32) (G68 : aH) =>
          vp_in (x3 + 1) L ∧ (
          vp_in (x3 + 2) L ∧ (
          th_o G68 a2 8 ∧ (
          (tw_X8_reason
            (fun (r71 : Int32) (G70 : aH) =>
              (r69 = r71 →
                tw_L_law_b1227 L xs (tw_L_law_b18 L xs n) G70 a1 a2 x3) ∧
              (¬ r69 = r71 →
                (0 : Int32) = 1))
            G68 a2 (xs (x3 + 1).toNatClampNeg) (xs (x3 + 2).toNatClampNeg))))))
        G a1 (xs (x3 + 1).toNatClampNeg) (xs (x3 + 2).toNatClampNeg)))))) ∧
    ((xs x3.toNatClampNeg) &&& 63 = 16 →
      vp_in (x3 + 1) L ∧ (
      vp_in (x3 + 2) L ∧ (
      th_o G a1 0 ∧ (
      (tw_X0_parishOf
        (fun (r73 : Int32) (G72 : aH) =>
          vp_in (x3 + 1) L ∧ (
          vp_in (x3 + 2) L ∧ (
          th_o G72 a2 8 ∧ (
          (tw_X8_parishOf
            (fun (r75 : Int32) (G74 : aH) =>
              (r73 = r75 →
                tw_L_law_b1227 L xs (tw_L_law_b18 L xs n) G74 a1 a2 x3) ∧
              (¬ r73 = r75 →
                (0 : Int32) = 1))
            G72 a2 (xs (x3 + 1).toNatClampNeg) (xs (x3 + 2).toNatClampNeg))))))
        G a1 (xs (x3 + 1).toNatClampNeg) (xs (x3 + 2).toNatClampNeg)))))) ∧
    ((xs x3.toNatClampNeg) &&& 63 = 17 →
      vp_in (x3 + 1) L ∧ (
      vp_in (x3 + 2) L ∧ (
      th_o G a1 0 ∧ (
      (tw_X0_bayOf
        (fun (r77 : Int32) (G76 : aH) =>
          vp_in (x3 + 1) L ∧ (
          vp_in (x3 + 2) L ∧ (
          th_o G76 a2 8 ∧ (
          (tw_X8_bayOf
            (fun (r79 : Int32) (G78 : aH) =>
              (r77 = r79 →
                tw_L_law_b1227 L xs (tw_L_law_b18 L xs n) G78 a1 a2 x3) ∧
              (¬ r77 = r79 →
                (0 : Int32) = 1))
            G76 a2 (xs (x3 + 1).toNatClampNeg) (xs (x3 + 2).toNatClampNeg))))))
        G a1 (xs (x3 + 1).toNatClampNeg) (xs (x3 + 2).toNatClampNeg)))))) ∧
    ((xs x3.toNatClampNeg) &&& 63 = 18 →
      vp_in (x3 + 1) L ∧ (
      vp_in (x3 + 2) L ∧ (
      vp_in (x3 + 3) L ∧ (
      th_o G a1 0 ∧ (
      (tw_X0_lotOf
        (fun (r81 : Int32) (G80 : aH) =>
          vp_in (x3 + 1) L ∧ (
          vp_in (x3 + 2) L ∧ (
          vp_in (x3 + 3) L ∧ (
          th_o G80 a2 8 ∧ (
          (tw_X8_lotOf
            (fun (r83 : Int32) (G82 : aH) =>
              (r81 = r83 →
                tw_L_law_b1227 L xs (tw_L_law_b18 L xs n) G82 a1 a2 x3) ∧
              (¬ r81 = r83 →
                (0 : Int32) = 1))
            G80 a2 (xs (x3 + 1).toNatClampNeg) (xs (x3 + 2).toNatClampNeg) (xs (x3 + 3).toNatClampNeg)))))))
        G a1 (xs (x3 + 1).toNatClampNeg) (xs (x3 + 2).toNatClampNeg) (xs (x3 + 3).toNatClampNeg))))))) ∧
    ((xs x3.toNatClampNeg) &&& 63 = 19 →
      vp_in (x3 + 1) L ∧ (
      vp_in (x3 + 2) L ∧ (
      th_o G a1 0 ∧ (
      (tw_X0_floorOf
        (fun (r85 : Int32) (G84 : aH) =>
          vp_in (x3 + 1) L ∧ (
          vp_in (x3 + 2) L ∧ (
          th_o G84 a2 8 ∧ (
          (tw_X8_floorOf
            (fun (r87 : Int32) (G86 : aH) =>
              (r85 = r87 →
                tw_L_law_b1227 L xs (tw_L_law_b18 L xs n) G86 a1 a2 x3) ∧
              (¬ r85 = r87 →
                (0 : Int32) = 1))
            G84 a2 (xs (x3 + 1).toNatClampNeg) (xs (x3 + 2).toNatClampNeg))))))
        G a1 (xs (x3 + 1).toNatClampNeg) (xs (x3 + 2).toNatClampNeg)))))) ∧
    ((xs x3.toNatClampNeg) &&& 63 = 20 →
      vp_in (x3 + 1) L ∧ (
      vp_in (x3 + 2) L ∧ (
      th_o G a1 0 ∧ (
      (tw_X0_binOf
        (fun (r89 : Int32) (G88 : aH) =>
          vp_in (x3 + 1) L ∧ (
          vp_in (x3 + 2) L ∧ (
          th_o G88 a2 8 ∧ (
          (tw_X8_binOf
            (fun (r91 : Int32) (G90 : aH) =>
              (r89 = r91 →
                tw_L_law_b1227 L xs (tw_L_law_b18 L xs n) G90 a1 a2 x3) ∧
              (¬ r89 = r91 →
                (0 : Int32) = 1))
            G88 a2 (xs (x3 + 1).toNatClampNeg) (xs (x3 + 2).toNatClampNeg))))))
        G a1 (xs (x3 + 1).toNatClampNeg) (xs (x3 + 2).toNatClampNeg)))))) ∧
    ((xs x3.toNatClampNeg) &&& 63 = 21 →
      vp_in (x3 + 1) L ∧ (
      vp_in (x3 + 2) L ∧ (
      th_o G a1 0 ∧ (
      (tw_X0_placeOf
        (fun (r93 : Int32) (G92 : aH) =>
          vp_in (x3 + 1) L ∧ (
          vp_in (x3 + 2) L ∧ (
          th_o G92 a2 8 ∧ (
          (tw_X8_placeOf
            (fun (r95 : Int32) (G94 : aH) =>
              (r93 = r95 →
                tw_L_law_b1227 L xs (tw_L_law_b18 L xs n) G94 a1 a2 x3) ∧
              (¬ r93 = r95 →
                (0 : Int32) = 1))
            G92 a2 (xs (x3 + 1).toNatClampNeg) (xs (x3 + 2).toNatClampNeg))))))
        G a1 (xs (x3 + 1).toNatClampNeg) (xs (x3 + 2).toNatClampNeg)))))) ∧
    ((xs x3.toNatClampNeg) &&& 63 = 22 →
      vp_in (x3 + 1) L ∧ (
      vp_in (x3 + 2) L ∧ (
      th_o G a1 0 ∧ (
      (tw_X0_tithe
        (fun (r97 : Int32) (G96 : aH) =>
          vp_in (x3 + 1) L ∧ (
          vp_in (x3 + 2) L ∧ (
          th_o G96 a2 8 ∧ (
          (tw_X8_tithe
            (fun (r99 : Int32) (G98 : aH) =>
              (r97 = r99 →
                tw_L_law_b1227 L xs (tw_L_law_b18 L xs n) G98 a1 a2 x3) ∧
              (¬ r97 = r99 →
                (0 : Int32) = 1))
            G96 a2 (xs (x3 + 1).toNatClampNeg) (xs (x3 + 2).toNatClampNeg))))))
        G a1 (xs (x3 + 1).toNatClampNeg) (xs (x3 + 2).toNatClampNeg)))))) ∧
    ((xs x3.toNatClampNeg) &&& 63 = 23 →
      vp_in (x3 + 1) L ∧ (
      vp_in (x3 + 2) L ∧ (
      th_o G a1 0 ∧ (
      (tw_X0_titheAgain
        (fun (r101 : Int32) (G100 : aH) =>
          vp_in (x3 + 1) L ∧ (
          vp_in (x3 + 2) L ∧ (
          th_o G100 a2 8 ∧ (
          (tw_X8_titheAgain
            (fun (r103 : Int32) (G102 : aH) =>
              (r101 = r103 →
                tw_L_law_b1227 L xs (tw_L_law_b18 L xs n) G102 a1 a2 x3) ∧
              (¬ r101 = r103 →
                (0 : Int32) = 1))
            G100 a2 (xs (x3 + 1).toNatClampNeg) (xs (x3 + 2).toNatClampNeg))))))
        G a1 (xs (x3 + 1).toNatClampNeg) (xs (x3 + 2).toNatClampNeg)))))) ∧
    ((xs x3.toNatClampNeg) &&& 63 = 24 →
      vp_in (x3 + 1) L ∧ (
      th_o G a1 0 ∧ (
      (tw_X0_lasts
        (fun (r105 : Int32) (G104 : aH) =>
          vp_in (x3 + 1) L ∧ (
          th_o G104 a2 8 ∧ (
          (tw_X8_lasts
            (fun (r107 : Int32) (G106 : aH) =>
              (r105 = r107 →
                tw_L_law_b1227 L xs (tw_L_law_b18 L xs n) G106 a1 a2 x3) ∧
              (¬ r105 = r107 →
                (0 : Int32) = 1))
            G104 a2 (xs (x3 + 1).toNatClampNeg)))))
        G a1 (xs (x3 + 1).toNatClampNeg))))) ∧
    ((xs x3.toNatClampNeg) &&& 63 = 25 →
      vp_in (x3 + 1) L ∧ (
      th_o G a1 0 ∧ (
      (tw_X0_bestCat
        (fun (r109 : Int32) (G108 : aH) =>
          vp_in (x3 + 1) L ∧ (
          th_o G108 a2 8 ∧ (
          (tw_X8_bestCat
            (fun (r111 : Int32) (G110 : aH) =>
              (r109 = r111 →
                tw_L_law_b1227 L xs (tw_L_law_b18 L xs n) G110 a1 a2 x3) ∧
              (¬ r109 = r111 →
                (0 : Int32) = 1))
            G108 a2 (xs (x3 + 1).toNatClampNeg)))))
        G a1 (xs (x3 + 1).toNatClampNeg))))) ∧
    ((xs x3.toNatClampNeg) &&& 63 = 26 →
      vp_in (x3 + 1) L ∧ (
      th_o G a1 0 ∧ (
      (tw_X0_ranked
        (fun (r113 : Int32) (G112 : aH) =>
          vp_in (x3 + 1) L ∧ (
          th_o G112 a2 8 ∧ (
          (tw_X8_ranked
            (fun (r115 : Int32) (G114 : aH) =>
              (r113 = r115 →
                tw_L_law_b1227 L xs (tw_L_law_b18 L xs n) G114 a1 a2 x3) ∧
              (¬ r113 = r115 →
                (0 : Int32) = 1))
            G112 a2 (xs (x3 + 1).toNatClampNeg)))))
        G a1 (xs (x3 + 1).toNatClampNeg))))) ∧
    ((xs x3.toNatClampNeg) &&& 63 = 27 →
      vp_in (x3 + 1) L ∧ (
      th_o G a1 0 ∧ (
      (tw_X0_grain
        (fun (r117 : Int32) (G116 : aH) =>
          vp_in (x3 + 1) L ∧ (
          th_o G116 a2 8 ∧ (
          (tw_X8_grain
            (fun (r119 : Int32) (G118 : aH) =>
              (r117 = r119 →
                tw_L_law_b1227 L xs (tw_L_law_b18 L xs n) G118 a1 a2 x3) ∧
              (¬ r117 = r119 →
                (0 : Int32) = 1))
            G116 a2 (xs (x3 + 1).toNatClampNeg)))))
        G a1 (xs (x3 + 1).toNatClampNeg))))) ∧
    ((xs x3.toNatClampNeg) &&& 63 = 28 →
      th_o G a1 0 ∧ (
      (tw_X0_grainAgain
        (fun (r121 : Int32) (G120 : aH) =>
          th_o G120 a2 8 ∧ (
          (tw_X8_grainAgain
            (fun (r123 : Int32) (G122 : aH) =>
              (r121 = r123 →
                tw_L_law_b1227 L xs (tw_L_law_b18 L xs n) G122 a1 a2 x3) ∧
              (¬ r121 = r123 →
                (0 : Int32) = 1))
            G120 a2)))
        G a1))) ∧
    ((xs x3.toNatClampNeg) &&& 63 = 29 →
      vp_in (x3 + 1) L ∧ (
      th_o G a1 0 ∧ (
      (tw_X0_share
        (fun (f125 : UInt32) (G124 : aH) =>
          vf_n64 (FP.f2d f125) ∧ (
          ∀ d126 : UInt64, d126 = FP.f2d f125 → 
          vp_in (x3 + 1) L ∧ (
          th_o G124 a2 8 ∧ (
          (tw_X8_share
            (fun (f128 : UInt32) (G127 : aH) =>
              vf_n64 (FP.f2d f128) ∧ (
              ∀ d129 : UInt64, d129 = FP.f2d f128 → 
              (Op.cmpValue (FP.dcmp d126 d129) .l = 0 →
                tw_L_law_b1075 L xs (tw_L_law_b18 L xs n) G127 a1 a2 x3) ∧
              (¬ Op.cmpValue (FP.dcmp d126 d129) .l = 0 →
                (Op.cmpValue (FP.dcmp d126 d126) .l = 0 →
                  (0 : Int32) = 1) ∧
                (¬ Op.cmpValue (FP.dcmp d126 d126) .l = 0 →
                  (¬ Op.cmpValue (FP.dcmp d129 d129) .l = 0 →
                    tw_L_law_b1075 L xs (tw_L_law_b18 L xs n) G127 a1 a2 x3) ∧
                  (Op.cmpValue (FP.dcmp d129 d129) .l = 0 →
                    (0 : Int32) = 1)))))
            G124 a2 (xs (x3 + 1).toNatClampNeg))))))
        G a1 (xs (x3 + 1).toNatClampNeg))))) ∧
    ((xs x3.toNatClampNeg) &&& 63 = 30 →
      th_o G a1 0 ∧ (
      (tw_X0_meanRats
        (fun (d131 : UInt64) (G130 : aH) =>
          ∀ d132 : UInt64, d132 = d131 → 
          th_o G130 a2 8 ∧ (
          (tw_X8_meanRats
            (fun (d134 : UInt64) (G133 : aH) =>
              ∀ d135 : UInt64, d135 = d134 → 
              (Op.cmpValue (FP.dcmp d132 d135) .l = 0 →
                tw_L_law_b1116 L xs (tw_L_law_b18 L xs n) G133 a1 a2 x3) ∧
              (¬ Op.cmpValue (FP.dcmp d132 d135) .l = 0 →
                (Op.cmpValue (FP.dcmp d132 d132) .l = 0 →
                  (0 : Int32) = 1) ∧
                (¬ Op.cmpValue (FP.dcmp d132 d132) .l = 0 →
                  (¬ Op.cmpValue (FP.dcmp d135 d135) .l = 0 →
                    tw_L_law_b1116 L xs (tw_L_law_b18 L xs n) G133 a1 a2 x3) ∧
                  (Op.cmpValue (FP.dcmp d135 d135) .l = 0 →
                    (0 : Int32) = 1))))
            G130 a2)))
        G a1))) ∧
    ((xs x3.toNatClampNeg) &&& 63 = 31 →
      vp_in (x3 + 1) L ∧ (
      th_o G a1 0 ∧ (
      (tw_X0_describe
        (fun (r137 : Int32) (G136 : aH) =>
          vp_in (x3 + 1) L ∧ (
          th_o G136 a2 8 ∧ (
          (tw_X8_describe
            (fun (r139 : Int32) (G138 : aH) =>
              (r137 = r139 →
                tw_L_law_b1227 L xs (tw_L_law_b18 L xs n) G138 a1 a2 x3) ∧
              (¬ r137 = r139 →
                (0 : Int32) = 1))
            G136 a2 (xs (x3 + 1).toNatClampNeg)))))
        G a1 (xs (x3 + 1).toNatClampNeg))))) ∧
    ((xs x3.toNatClampNeg) &&& 63 = 32 →
      vp_in (x3 + 1) L ∧ (
      th_o G a1 0 ∧ (
      (tw_X0_written
        (fun (r141 : Int32) (G140 : aH) =>
          vp_in (x3 + 1) L ∧ (
          th_o G140 a2 8 ∧ (
          (tw_X8_written
            (fun (r143 : Int32) (G142 : aH) =>
              (r141 = r143 →
                tw_L_law_b1227 L xs (tw_L_law_b18 L xs n) G142 a1 a2 x3) ∧
              (¬ r141 = r143 →
                (0 : Int32) = 1))
            G140 a2 (xs (x3 + 1).toNatClampNeg)))))
        G a1 (xs (x3 + 1).toNatClampNeg))))) ∧
    ((xs x3.toNatClampNeg) &&& 63 = 33 →
      vp_in (x3 + 1) L ∧ (
      th_o G a1 0 ∧ (
      (tw_X0_account
        (fun (r145 : Int32) (G144 : aH) =>
          vp_in (x3 + 1) L ∧ (
          th_o G144 a2 8 ∧ (
          (tw_X8_account
            (fun (r147 : Int32) (G146 : aH) =>
              (r145 = r147 →
                tw_L_law_b1227 L xs (tw_L_law_b18 L xs n) G146 a1 a2 x3) ∧
              (¬ r145 = r147 →
                (0 : Int32) = 1))
            G144 a2 (xs (x3 + 1).toNatClampNeg)))))
        G a1 (xs (x3 + 1).toNatClampNeg))))) ∧
    ((xs x3.toNatClampNeg) &&& 63 = 34 →
      th_o G a1 0 ∧ (
      (tw_X0_undo
        (fun (r149 : Int32) (G148 : aH) =>
          th_o G148 a2 8 ∧ (
          (tw_X8_undo
            (fun (r151 : Int32) (G150 : aH) =>
              (r149 = r151 →
                tw_L_law_b1227 L xs (tw_L_law_b18 L xs n) G150 a1 a2 x3) ∧
              (¬ r149 = r151 →
                (0 : Int32) = 1))
            G148 a2)))
        G a1))) ∧
    ((xs x3.toNatClampNeg) &&& 63 = 35 →
      th_o G a1 0 ∧ (
      (tw_X0_save
        (fun (r153 : Int32) (G152 : aH) =>
          th_o G152 a2 8 ∧ (
          (tw_X8_save
            (fun (r155 : Int32) (G154 : aH) =>
              (r153 = r155 →
                tw_L_law_b1227 L xs (tw_L_law_b18 L xs n) G154 a1 a2 x3) ∧
              (¬ r153 = r155 →
                (0 : Int32) = 1))
            G152 a2)))
        G a1))) ∧
    ((xs x3.toNatClampNeg) &&& 63 = 36 →
      th_o G a1 0 ∧ (
      (tw_X0_restore
        (fun (r157 : Int32) (G156 : aH) =>
          th_o G156 a2 8 ∧ (
          (tw_X8_restore
            (fun (r159 : Int32) (G158 : aH) =>
              (r157 = r159 →
                tw_L_law_b1227 L xs (tw_L_law_b18 L xs n) G158 a1 a2 x3) ∧
              (¬ r157 = r159 →
                (0 : Int32) = 1))
            G156 a2)))
        G a1))) ∧
    (¬ (xs x3.toNatClampNeg) &&& 63 = 0 → ¬ (xs x3.toNatClampNeg) &&& 63 = 1 → ¬ (xs x3.toNatClampNeg) &&& 63 = 2 → ¬ (xs x3.toNatClampNeg) &&& 63 = 3 → ¬ (xs x3.toNatClampNeg) &&& 63 = 4 → ¬ (xs x3.toNatClampNeg) &&& 63 = 5 → ¬ (xs x3.toNatClampNeg) &&& 63 = 6 → ¬ (xs x3.toNatClampNeg) &&& 63 = 7 → ¬ (xs x3.toNatClampNeg) &&& 63 = 8 → ¬ (xs x3.toNatClampNeg) &&& 63 = 9 → ¬ (xs x3.toNatClampNeg) &&& 63 = 10 → ¬ (xs x3.toNatClampNeg) &&& 63 = 11 → ¬ (xs x3.toNatClampNeg) &&& 63 = 12 → ¬ (xs x3.toNatClampNeg) &&& 63 = 13 → ¬ (xs x3.toNatClampNeg) &&& 63 = 14 → ¬ (xs x3.toNatClampNeg) &&& 63 = 15 → ¬ (xs x3.toNatClampNeg) &&& 63 = 16 → ¬ (xs x3.toNatClampNeg) &&& 63 = 17 → ¬ (xs x3.toNatClampNeg) &&& 63 = 18 → ¬ (xs x3.toNatClampNeg) &&& 63 = 19 → ¬ (xs x3.toNatClampNeg) &&& 63 = 20 → ¬ (xs x3.toNatClampNeg) &&& 63 = 21 → ¬ (xs x3.toNatClampNeg) &&& 63 = 22 → ¬ (xs x3.toNatClampNeg) &&& 63 = 23 → ¬ (xs x3.toNatClampNeg) &&& 63 = 24 → ¬ (xs x3.toNatClampNeg) &&& 63 = 25 → ¬ (xs x3.toNatClampNeg) &&& 63 = 26 → ¬ (xs x3.toNatClampNeg) &&& 63 = 27 → ¬ (xs x3.toNatClampNeg) &&& 63 = 28 → ¬ (xs x3.toNatClampNeg) &&& 63 = 29 → ¬ (xs x3.toNatClampNeg) &&& 63 = 30 → ¬ (xs x3.toNatClampNeg) &&& 63 = 31 → ¬ (xs x3.toNatClampNeg) &&& 63 = 32 → ¬ (xs x3.toNatClampNeg) &&& 63 = 33 → ¬ (xs x3.toNatClampNeg) &&& 63 = 34 → ¬ (xs x3.toNatClampNeg) &&& 63 = 35 → ¬ (xs x3.toNatClampNeg) &&& 63 = 36 → 
      tw_L_law_b1227 L xs (tw_L_law_b18 L xs n) G a1 a2 x3)))) := rfl
def tw_L_law (L : Nat) (xs : Nat → Int32) (G : aH) (b : Nat) : Prop :=
  ∀ z1 : Nat, z1 = a_sz G → ∀ G2 : aH, G2 = a_nw G (0 + 1) 0 → 
  (a_sh G2 z1).1 ≠ 0 ∧ (
  (tw_X0_init
    (fun (G3 : aH) =>
      ∀ z4 : Nat, z4 = a_sz G3 → ∀ G5 : aH, G5 = a_nw G3 (8 + 1) 0 → 
      (a_sh G5 z4).1 ≠ 0 ∧ (
      (tw_X8_init
        (fun (G6 : aH) =>
          tw_L_law_b18 L xs 25 G6 z1 z4 0)
        G5 z4)))
    G2 z1))
theorem tk_L_law_b1227 {p : Program} {l : Launch} {e : Env} {s : State} {m : MethodId} {b : Nat} {below : List Frame} {meth : Method} {c : Code} {D : tD} {L : Nat} {xs : Nat → Int32} {B : Nat} (E : th_EL p m c s b meth D L xs B) {k18 : aH → Nat → Nat → Int32 → Prop} {c18 s18 : Nat} (h18 : ∀ (G : aH) (H : Heap) (locs : List Loc) (cells slots : Nat) (ls : Array Slot) (y18_1 : Nat) (y18_2 : Nat) (y18_3 : Int32), k18 G y18_1 y18_2 y18_3 → th_H D B G H → va_S (th_A B) s.heap H locs → th_L ls 8 [(0, .ref b), (1, rv y18_1), (2, rv y18_2), (3, .int y18_3)] → cells ≤ c18 ∧ slots ≤ s18 → W p l e room_1 s m #[Value.ref b] below meth c H locs cells slots (lw_Z below #[Value.ref b] s) (F0 m 18 ls [])) {G : aH} {H : Heap} {locs : List Loc} {cells slots : Nat} {ls : Array Slot} {a1 : Nat} {a2 : Nat} {x3 : Int32} (hR : th_H D B G H) (hS : va_S (th_A B) s.heap H locs) (hL : th_L ls 8 [(0, .ref b), (1, rv a1), (2, rv a2), (3, .int x3)]) (hw : tw_L_law_b1227 L xs k18 G a1 a2 x3) (hc : cells + (0) ≤ 1200048 ∧ slots + (0) ≤ 5501818 ∧ cells + (0) ≤ c18 ∧ slots + (0) ≤ s18) : W p l e room_1 s m #[Value.ref b] below meth c H locs cells slots (lw_Z below #[Value.ref b] s) (F0 m 1227 ls []) := by
  have CF := E.1; have hx := CF.1; have hb := CF.2.1; have hret := E.2.1; have hlk := E.2.2.1; have hK := E.2.2.2.1; have hSt := E.2.2.2.2.1; have hX := E.2.2.2.2.2.1; have hbl := E.2.2.2.2.2.2.1; have hB := E.2.2.2.2.2.2.2.1; have hbA : ¬ th_A B b := E.2.2.2.2.2.2.2.2
  unfold tw_L_law_b1227 at hw
  obtain ⟨x3_11, hx3_11⟩ : ∃ y : Int32, y = x3 + 4 := ⟨_, rfl⟩
  replace hw := hw x3_11 hx3_11
  refine th_iinc hx hb dL_law_1227 hL (k := 3) rfl (v := x3_11) hx3_11.symm (by decide) rfl (fun ls hL => ?_)
  refine lv_goto hx hb dL_law_1230 (tgt := 18) (by decide) ?_
  exact h18 _ _ _ _ _ _ _ _ _ hw hR hS (hL.sub [1, 2, 3, 0] rfl) ⟨by omega, by omega⟩
theorem tk_L_law_b1075 {p : Program} {l : Launch} {e : Env} {s : State} {m : MethodId} {b : Nat} {below : List Frame} {meth : Method} {c : Code} {D : tD} {L : Nat} {xs : Nat → Int32} {B : Nat} (E : th_EL p m c s b meth D L xs B) {k18 : aH → Nat → Nat → Int32 → Prop} {c18 s18 : Nat} (h18 : ∀ (G : aH) (H : Heap) (locs : List Loc) (cells slots : Nat) (ls : Array Slot) (y18_1 : Nat) (y18_2 : Nat) (y18_3 : Int32), k18 G y18_1 y18_2 y18_3 → th_H D B G H → va_S (th_A B) s.heap H locs → th_L ls 8 [(0, .ref b), (1, rv y18_1), (2, rv y18_2), (3, .int y18_3)] → cells ≤ c18 ∧ slots ≤ s18 → W p l e room_1 s m #[Value.ref b] below meth c H locs cells slots (lw_Z below #[Value.ref b] s) (F0 m 18 ls [])) {G : aH} {H : Heap} {locs : List Loc} {cells slots : Nat} {ls : Array Slot} {a1 : Nat} {a2 : Nat} {x3 : Int32} (hR : th_H D B G H) (hS : va_S (th_A B) s.heap H locs) (hL : th_L ls 8 [(0, .ref b), (1, rv a1), (2, rv a2), (3, .int x3)]) (hw : tw_L_law_b1075 L xs k18 G a1 a2 x3) (hc : cells + (0) ≤ 1200048 ∧ slots + (0) ≤ 5501818 ∧ cells + (0) ≤ c18 ∧ slots + (0) ≤ s18) : W p l e room_1 s m #[Value.ref b] below meth c H locs cells slots (lw_Z below #[Value.ref b] s) (F0 m 1075 ls []) := by
  have CF := E.1; have hx := CF.1; have hb := CF.2.1; have hret := E.2.1; have hlk := E.2.2.1; have hK := E.2.2.2.1; have hSt := E.2.2.2.2.1; have hX := E.2.2.2.2.2.1; have hbl := E.2.2.2.2.2.2.1; have hB := E.2.2.2.2.2.2.2.1; have hbA : ¬ th_A B b := E.2.2.2.2.2.2.2.2
  unfold tw_L_law_b1075 at hw
  refine lv_goto hx hb dL_law_1075 (tgt := 1227) (by decide) ?_
  exact tk_L_law_b1227 E h18 hR hS (hL.sub [0, 1, 2, 3] rfl) hw ⟨by omega, by omega, by omega, by omega⟩
theorem tk_L_law_b1116 {p : Program} {l : Launch} {e : Env} {s : State} {m : MethodId} {b : Nat} {below : List Frame} {meth : Method} {c : Code} {D : tD} {L : Nat} {xs : Nat → Int32} {B : Nat} (E : th_EL p m c s b meth D L xs B) {k18 : aH → Nat → Nat → Int32 → Prop} {c18 s18 : Nat} (h18 : ∀ (G : aH) (H : Heap) (locs : List Loc) (cells slots : Nat) (ls : Array Slot) (y18_1 : Nat) (y18_2 : Nat) (y18_3 : Int32), k18 G y18_1 y18_2 y18_3 → th_H D B G H → va_S (th_A B) s.heap H locs → th_L ls 8 [(0, .ref b), (1, rv y18_1), (2, rv y18_2), (3, .int y18_3)] → cells ≤ c18 ∧ slots ≤ s18 → W p l e room_1 s m #[Value.ref b] below meth c H locs cells slots (lw_Z below #[Value.ref b] s) (F0 m 18 ls [])) {G : aH} {H : Heap} {locs : List Loc} {cells slots : Nat} {ls : Array Slot} {a1 : Nat} {a2 : Nat} {x3 : Int32} (hR : th_H D B G H) (hS : va_S (th_A B) s.heap H locs) (hL : th_L ls 8 [(0, .ref b), (1, rv a1), (2, rv a2), (3, .int x3)]) (hw : tw_L_law_b1116 L xs k18 G a1 a2 x3) (hc : cells + (0) ≤ 1200048 ∧ slots + (0) ≤ 5501818 ∧ cells + (0) ≤ c18 ∧ slots + (0) ≤ s18) : W p l e room_1 s m #[Value.ref b] below meth c H locs cells slots (lw_Z below #[Value.ref b] s) (F0 m 1116 ls []) := by
  have CF := E.1; have hx := CF.1; have hb := CF.2.1; have hret := E.2.1; have hlk := E.2.2.1; have hK := E.2.2.2.1; have hSt := E.2.2.2.2.1; have hX := E.2.2.2.2.2.1; have hbl := E.2.2.2.2.2.2.1; have hB := E.2.2.2.2.2.2.2.1; have hbA : ¬ th_A B b := E.2.2.2.2.2.2.2.2
  unfold tw_L_law_b1116 at hw
  refine lv_goto hx hb dL_law_1116 (tgt := 1227) (by decide) ?_
  exact tk_L_law_b1227 E h18 hR hS (hL.sub [0, 1, 2, 3] rfl) hw ⟨by omega, by omega, by omega, by omega⟩
theorem tk_L_law_b18 {p : Program} {l : Launch} {e : Env} {s : State} {m : MethodId} {b : Nat} {below : List Frame} {meth : Method} {c : Code} {D : tD} {L : Nat} {xs : Nat → Int32} {B : Nat} (E : th_EL p m c s b meth D L xs B) : ∀ (n : Nat) {G : aH} {H : Heap} {locs : List Loc} {cells slots : Nat} {ls : Array Slot} {a1 : Nat} {a2 : Nat} {x3 : Int32} (hR : th_H D B G H) (hS : va_S (th_A B) s.heap H locs) (hL : th_L ls 8 [(0, .ref b), (1, rv a1), (2, rv a2), (3, .int x3)]) (hw : tw_L_law_b18 L xs n G a1 a2 x3) (hc : cells + (n * 1342 + 1342) ≤ 1200048 ∧ slots + (n * 8122 + 8122) ≤ 5501818), W p l e room_1 s m #[Value.ref b] below meth c H locs cells slots (lw_Z below #[Value.ref b] s) (F0 m 18 ls []) := by
  have CF := E.1; have hx := CF.1; have hb := CF.2.1; have hret := E.2.1; have hlk := E.2.2.1; have hK := E.2.2.2.1; have hSt := E.2.2.2.2.1; have hX := E.2.2.2.2.2.1; have hbl := E.2.2.2.2.2.2.1; have hB := E.2.2.2.2.2.2.2.1; have hbA : ¬ th_A B b := E.2.2.2.2.2.2.2.2
  intro n
  induction n with
  | zero => intro _ _ _ _ _ _ _ _ _ _ _ _ hw; exact hw.elim
  | succ n ih =>
    intro G H locs cells slots ls a1 a2 x3 hR hS hL hw hc
    rw [tws_L_law_b18] at hw
    refine lv_iload_n hx hb dL_law_18 rfl (lv_at hL.1 3 rfl) ?_
    refine lv_aload_n hx hb dL_law_19 rfl (lv_at hL.1 0 rfl) ?_
    refine va_slen hx hb hX hbl hbA hS dL_law_20 ?_
    refine lv_iconst hx hb dL_law_21 (v := 4) rfl ?_
    refine lv_isub hx hb dL_law_22 ?_
    refine lv_icmp_gt hx hb dL_law_23 (tgt := 1233) (by decide) (fun h => ?_) (fun h => ?_)
    · replace hw := hw.1 h
      refine lv_iconst hx hb dL_law_1233 (v := 1) rfl ?_
      exact th_lret hx hb hret hlk hB hS (by omega) (by omega) dL_law_1234
    · replace hw := hw.2 h
      refine lv_aload_n hx hb dL_law_26 rfl (lv_at hL.1 0 rfl) ?_
      refine lv_iload_n hx hb dL_law_27 rfl (lv_at hL.1 3 rfl) ?_
      obtain ⟨h0, hw⟩ := hw
      refine va_sld hx hb hX hbl hbA hS h0 dL_law_28 ?_
      refine lv_bipush hx hb dL_law_29 (v := 63) rfl ?_
      refine lv_iand hx hb dL_law_31 ?_
      by_cases g0 : (xs x3.toNatClampNeg) &&& 63 = 0
      · replace hw := hw.1 g0
        refine lv_tableIn hx hb dL_law_32 (tgt := 196) (by rw [g0]; decide) (by rw [g0]; decide) (by rw [g0]; rfl) (by decide) ?_
        refine th_aload_n hx hb dL_law_196 rfl (lv_at hL.1 1 rfl) ?_
        obtain ⟨ho, hw⟩ := hw
        refine th_ki hS (th_rV CF hK hSt hR hS ho (ci := 0) rfl (rest := []) (tk_X0_clear) (cw_L_13 CF hK (by decide +kernel)) hw rfl hL.1.1 rfl th_cn (Nat.le_of_ble_eq_true rfl) dL_law_197 ⟨by show _ ≤ (1200048 : Nat); omega, by show _ ≤ (5501818 : Nat); omega⟩) (fun r8 G7 H locs hw hR hS => ?_)
        refine th_aload_n hx hb dL_law_200 rfl (lv_at hL.1 2 rfl) ?_
        obtain ⟨ho, hw⟩ := hw
        refine th_ki hS (th_rV CF hK hSt hR hS ho (ci := 8) rfl (rest := [.int r8]) (tk_X8_clear) (cw_L_17 CF hK (by decide +kernel)) hw rfl hL.1.1 rfl (th_ci th_cn) (Nat.le_of_ble_eq_true rfl) dL_law_201 ⟨by show _ ≤ (1200048 : Nat); omega, by show _ ≤ (5501818 : Nat); omega⟩) (fun r10 G9 H locs hw hR hS => ?_)
        refine lv_icmp_eq hx hb dL_law_204 (tgt := 1227) (by decide) (fun h => ?_) (fun h => ?_)
        · replace hw := hw.1 h
          exact tk_L_law_b1227 E (c18 := cells + 0 + 0 + 0) (s18 := slots + 0 + 0 + 0) (fun G H locs cells slots ls y0 y1 y2 hw hR hS hL hc => ih hR hS hL hw ⟨by omega, by omega⟩) hR hS (hL.sub [0, 1, 2, 3] rfl) hw ⟨by omega, by omega, by omega, by omega⟩
        · replace hw := hw.2 h
          refine lv_iconst hx hb dL_law_207 (v := 0) rfl ?_
          exact absurd hw (by decide)
      by_cases g1 : (xs x3.toNatClampNeg) &&& 63 = 1
      · replace hw := hw.2.1 g1
        refine lv_tableIn hx hb dL_law_32 (tgt := 209) (by rw [g1]; decide) (by rw [g1]; decide) (by rw [g1]; rfl) (by decide) ?_
        refine th_aload_n hx hb dL_law_209 rfl (lv_at hL.1 1 rfl) ?_
        refine lv_aload_n hx hb dL_law_210 rfl (lv_at hL.1 0 rfl) ?_
        refine lv_iload_n hx hb dL_law_211 rfl (lv_at hL.1 3 rfl) ?_
        refine lv_iconst hx hb dL_law_212 (v := 1) rfl ?_
        refine lv_iadd hx hb dL_law_213 ?_
        obtain ⟨h0, hw⟩ := hw
        refine va_sld hx hb hX hbl hbA hS h0 dL_law_214 ?_
        refine lv_i2c hx hb dL_law_215 rfl ?_
        obtain ⟨ho, hw⟩ := hw
        refine th_ki hS (th_rV CF hK hSt hR hS ho (ci := 0) rfl (rest := []) (tk_X0_append) (cw_L_18 CF hK (by decide +kernel)) hw rfl hL.1.1 rfl th_cn (Nat.le_of_ble_eq_true rfl) dL_law_216 ⟨by show _ ≤ (1200048 : Nat); omega, by show _ ≤ (5501818 : Nat); omega⟩) (fun r13 G12 H locs hw hR hS => ?_)
        refine th_aload_n hx hb dL_law_219 rfl (lv_at hL.1 2 rfl) ?_
        refine lv_aload_n hx hb dL_law_220 rfl (lv_at hL.1 0 rfl) ?_
        refine lv_iload_n hx hb dL_law_221 rfl (lv_at hL.1 3 rfl) ?_
        refine lv_iconst hx hb dL_law_222 (v := 1) rfl ?_
        refine lv_iadd hx hb dL_law_223 ?_
        obtain ⟨h0, hw⟩ := hw
        refine va_sld hx hb hX hbl hbA hS h0 dL_law_224 ?_
        refine lv_i2c hx hb dL_law_225 rfl ?_
        obtain ⟨ho, hw⟩ := hw
        refine th_ki hS (th_rV CF hK hSt hR hS ho (ci := 8) rfl (rest := [.int r13]) (tk_X8_append) (cw_L_22 CF hK (by decide +kernel)) hw rfl hL.1.1 rfl (th_ci th_cn) (Nat.le_of_ble_eq_true rfl) dL_law_226 ⟨by show _ ≤ (1200048 : Nat); omega, by show _ ≤ (5501818 : Nat); omega⟩) (fun r15 G14 H locs hw hR hS => ?_)
        refine lv_icmp_eq hx hb dL_law_229 (tgt := 1227) (by decide) (fun h => ?_) (fun h => ?_)
        · replace hw := hw.1 h
          exact tk_L_law_b1227 E (c18 := cells + 0 + 0 + 0) (s18 := slots + 0 + 0 + 0) (fun G H locs cells slots ls y0 y1 y2 hw hR hS hL hc => ih hR hS hL hw ⟨by omega, by omega⟩) hR hS (hL.sub [0, 1, 2, 3] rfl) hw ⟨by omega, by omega, by omega, by omega⟩
        · replace hw := hw.2 h
          refine lv_iconst hx hb dL_law_232 (v := 0) rfl ?_
          exact absurd hw (by decide)
      by_cases g2 : (xs x3.toNatClampNeg) &&& 63 = 2
      · replace hw := hw.2.2.1 g2
        refine lv_tableIn hx hb dL_law_32 (tgt := 234) (by rw [g2]; decide) (by rw [g2]; decide) (by rw [g2]; rfl) (by decide) ?_
        refine th_aload_n hx hb dL_law_234 rfl (lv_at hL.1 1 rfl) ?_
        refine lv_aload_n hx hb dL_law_235 rfl (lv_at hL.1 0 rfl) ?_
        refine lv_iload_n hx hb dL_law_236 rfl (lv_at hL.1 3 rfl) ?_
        refine lv_iconst hx hb dL_law_237 (v := 1) rfl ?_
        refine lv_iadd hx hb dL_law_238 ?_
        obtain ⟨h0, hw⟩ := hw
        refine va_sld hx hb hX hbl hbA hS h0 dL_law_239 ?_
        obtain ⟨ho, hw⟩ := hw
        refine th_Xki hS (th_XrVX CF hK hSt hR hS ho (ci := 0) rfl (rest := []) (tk_X0_parish) (cw_L_23 CF hK (by decide +kernel)) hw rfl hL.1.1 rfl th_cn (Nat.le_of_ble_eq_true rfl) dL_law_240 ⟨by show _ ≤ (1200048 : Nat); omega, by show _ ≤ (5501818 : Nat); omega⟩) (fun e9 G9 H locs hw ho hR hS => ?_) (fun r17 G16 H locs hw hR hS => ?_)
        · exact absurd hw id
        · skip
          refine th_aload_n hx hb dL_law_243 rfl (lv_at hL.1 2 rfl) ?_
          refine lv_aload_n hx hb dL_law_244 rfl (lv_at hL.1 0 rfl) ?_
          refine lv_iload_n hx hb dL_law_245 rfl (lv_at hL.1 3 rfl) ?_
          refine lv_iconst hx hb dL_law_246 (v := 1) rfl ?_
          refine lv_iadd hx hb dL_law_247 ?_
          obtain ⟨h0, hw⟩ := hw
          refine va_sld hx hb hX hbl hbA hS h0 dL_law_248 ?_
          obtain ⟨ho, hw⟩ := hw
          refine th_ki hS (th_rV CF hK hSt hR hS ho (ci := 8) rfl (rest := [.int r17]) (tk_X8_parish) (cw_L_27 CF hK (by decide +kernel)) hw rfl hL.1.1 rfl (th_ci th_cn) (Nat.le_of_ble_eq_true rfl) dL_law_249 ⟨by show _ ≤ (1200048 : Nat); omega, by show _ ≤ (5501818 : Nat); omega⟩) (fun r19 G18 H locs hw hR hS => ?_)
          refine lv_icmp_eq hx hb dL_law_252 (tgt := 1227) (by decide) (fun h => ?_) (fun h => ?_)
          · replace hw := hw.1 h
            exact tk_L_law_b1227 E (c18 := cells + 2 + 0 + 0) (s18 := slots + 15 + 0 + 0) (fun G H locs cells slots ls y0 y1 y2 hw hR hS hL hc => ih hR hS hL hw ⟨by omega, by omega⟩) hR hS (hL.sub [0, 1, 2, 3] rfl) hw ⟨by omega, by omega, by omega, by omega⟩
          · replace hw := hw.2 h
            refine lv_iconst hx hb dL_law_255 (v := 0) rfl ?_
            exact absurd hw (by decide)
      by_cases g3 : (xs x3.toNatClampNeg) &&& 63 = 3
      · replace hw := hw.2.2.2.1 g3
        refine lv_tableIn hx hb dL_law_32 (tgt := 257) (by rw [g3]; decide) (by rw [g3]; decide) (by rw [g3]; rfl) (by decide) ?_
        refine th_aload_n hx hb dL_law_257 rfl (lv_at hL.1 1 rfl) ?_
        refine lv_aload_n hx hb dL_law_258 rfl (lv_at hL.1 0 rfl) ?_
        refine lv_iload_n hx hb dL_law_259 rfl (lv_at hL.1 3 rfl) ?_
        refine lv_iconst hx hb dL_law_260 (v := 1) rfl ?_
        refine lv_iadd hx hb dL_law_261 ?_
        obtain ⟨h0, hw⟩ := hw
        refine va_sld hx hb hX hbl hbA hS h0 dL_law_262 ?_
        refine lv_aload_n hx hb dL_law_263 rfl (lv_at hL.1 0 rfl) ?_
        refine lv_iload_n hx hb dL_law_264 rfl (lv_at hL.1 3 rfl) ?_
        refine lv_iconst hx hb dL_law_265 (v := 2) rfl ?_
        refine lv_iadd hx hb dL_law_266 ?_
        obtain ⟨h0, hw⟩ := hw
        refine va_sld hx hb hX hbl hbA hS h0 dL_law_267 ?_
        obtain ⟨ho, hw⟩ := hw
        refine th_Xki hS (th_XrVX CF hK hSt hR hS ho (ci := 0) rfl (rest := []) (tk_X0_harvest) (cw_L_28 CF hK (by decide +kernel)) hw rfl hL.1.1 rfl th_cn (Nat.le_of_ble_eq_true rfl) dL_law_268 ⟨by show _ ≤ (1200048 : Nat); omega, by show _ ≤ (5501818 : Nat); omega⟩) (fun e9 G9 H locs hw ho hR hS => ?_) (fun r21 G20 H locs hw hR hS => ?_)
        · exact absurd hw id
        · skip
          refine th_aload_n hx hb dL_law_271 rfl (lv_at hL.1 2 rfl) ?_
          refine lv_aload_n hx hb dL_law_272 rfl (lv_at hL.1 0 rfl) ?_
          refine lv_iload_n hx hb dL_law_273 rfl (lv_at hL.1 3 rfl) ?_
          refine lv_iconst hx hb dL_law_274 (v := 1) rfl ?_
          refine lv_iadd hx hb dL_law_275 ?_
          obtain ⟨h0, hw⟩ := hw
          refine va_sld hx hb hX hbl hbA hS h0 dL_law_276 ?_
          refine lv_aload_n hx hb dL_law_277 rfl (lv_at hL.1 0 rfl) ?_
          refine lv_iload_n hx hb dL_law_278 rfl (lv_at hL.1 3 rfl) ?_
          refine lv_iconst hx hb dL_law_279 (v := 2) rfl ?_
          refine lv_iadd hx hb dL_law_280 ?_
          obtain ⟨h0, hw⟩ := hw
          refine va_sld hx hb hX hbl hbA hS h0 dL_law_281 ?_
          obtain ⟨ho, hw⟩ := hw
          refine th_ki hS (th_rV CF hK hSt hR hS ho (ci := 8) rfl (rest := [.int r21]) (tk_X8_harvest) (cw_L_32 CF hK (by decide +kernel)) hw rfl hL.1.1 rfl (th_ci th_cn) (Nat.le_of_ble_eq_true rfl) dL_law_282 ⟨by show _ ≤ (1200048 : Nat); omega, by show _ ≤ (5501818 : Nat); omega⟩) (fun r23 G22 H locs hw hR hS => ?_)
          refine lv_icmp_eq hx hb dL_law_285 (tgt := 1227) (by decide) (fun h => ?_) (fun h => ?_)
          · replace hw := hw.1 h
            exact tk_L_law_b1227 E (c18 := cells + 2 + 0 + 0) (s18 := slots + 14 + 0 + 0) (fun G H locs cells slots ls y0 y1 y2 hw hR hS hL hc => ih hR hS hL hw ⟨by omega, by omega⟩) hR hS (hL.sub [0, 1, 2, 3] rfl) hw ⟨by omega, by omega, by omega, by omega⟩
          · replace hw := hw.2 h
            refine lv_iconst hx hb dL_law_288 (v := 0) rfl ?_
            exact absurd hw (by decide)
      by_cases g4 : (xs x3.toNatClampNeg) &&& 63 = 4
      · replace hw := hw.2.2.2.2.1 g4
        refine lv_tableIn hx hb dL_law_32 (tgt := 290) (by rw [g4]; decide) (by rw [g4]; decide) (by rw [g4]; rfl) (by decide) ?_
        refine th_aload_n hx hb dL_law_290 rfl (lv_at hL.1 1 rfl) ?_
        refine lv_aload_n hx hb dL_law_291 rfl (lv_at hL.1 0 rfl) ?_
        refine lv_iload_n hx hb dL_law_292 rfl (lv_at hL.1 3 rfl) ?_
        refine lv_iconst hx hb dL_law_293 (v := 1) rfl ?_
        refine lv_iadd hx hb dL_law_294 ?_
        obtain ⟨h0, hw⟩ := hw
        refine va_sld hx hb hX hbl hbA hS h0 dL_law_295 ?_
        refine lv_aload_n hx hb dL_law_296 rfl (lv_at hL.1 0 rfl) ?_
        refine lv_iload_n hx hb dL_law_297 rfl (lv_at hL.1 3 rfl) ?_
        refine lv_iconst hx hb dL_law_298 (v := 2) rfl ?_
        refine lv_iadd hx hb dL_law_299 ?_
        obtain ⟨h0, hw⟩ := hw
        refine va_sld hx hb hX hbl hbA hS h0 dL_law_300 ?_
        refine lv_aload_n hx hb dL_law_301 rfl (lv_at hL.1 0 rfl) ?_
        refine lv_iload_n hx hb dL_law_302 rfl (lv_at hL.1 3 rfl) ?_
        refine lv_iconst hx hb dL_law_303 (v := 3) rfl ?_
        refine lv_iadd hx hb dL_law_304 ?_
        obtain ⟨h0, hw⟩ := hw
        refine va_sld hx hb hX hbl hbA hS h0 dL_law_305 ?_
        obtain ⟨ho, hw⟩ := hw
        refine th_Xki hS (th_XrVX CF hK hSt hR hS ho (ci := 0) rfl (rest := []) (tk_X0_cart) (cw_L_33 CF hK (by decide +kernel)) hw rfl hL.1.1 rfl th_cn (Nat.le_of_ble_eq_true rfl) dL_law_306 ⟨by show _ ≤ (1200048 : Nat); omega, by show _ ≤ (5501818 : Nat); omega⟩) (fun e9 G9 H locs hw ho hR hS => ?_) (fun r25 G24 H locs hw hR hS => ?_)
        · exact absurd hw id
        · skip
          refine th_aload_n hx hb dL_law_309 rfl (lv_at hL.1 2 rfl) ?_
          refine lv_aload_n hx hb dL_law_310 rfl (lv_at hL.1 0 rfl) ?_
          refine lv_iload_n hx hb dL_law_311 rfl (lv_at hL.1 3 rfl) ?_
          refine lv_iconst hx hb dL_law_312 (v := 1) rfl ?_
          refine lv_iadd hx hb dL_law_313 ?_
          obtain ⟨h0, hw⟩ := hw
          refine va_sld hx hb hX hbl hbA hS h0 dL_law_314 ?_
          refine lv_aload_n hx hb dL_law_315 rfl (lv_at hL.1 0 rfl) ?_
          refine lv_iload_n hx hb dL_law_316 rfl (lv_at hL.1 3 rfl) ?_
          refine lv_iconst hx hb dL_law_317 (v := 2) rfl ?_
          refine lv_iadd hx hb dL_law_318 ?_
          obtain ⟨h0, hw⟩ := hw
          refine va_sld hx hb hX hbl hbA hS h0 dL_law_319 ?_
          refine lv_aload_n hx hb dL_law_320 rfl (lv_at hL.1 0 rfl) ?_
          refine lv_iload_n hx hb dL_law_321 rfl (lv_at hL.1 3 rfl) ?_
          refine lv_iconst hx hb dL_law_322 (v := 3) rfl ?_
          refine lv_iadd hx hb dL_law_323 ?_
          obtain ⟨h0, hw⟩ := hw
          refine va_sld hx hb hX hbl hbA hS h0 dL_law_324 ?_
          obtain ⟨ho, hw⟩ := hw
          refine th_ki hS (th_rV CF hK hSt hR hS ho (ci := 8) rfl (rest := [.int r25]) (tk_X8_cart) (cw_L_37 CF hK (by decide +kernel)) hw rfl hL.1.1 rfl (th_ci th_cn) (Nat.le_of_ble_eq_true rfl) dL_law_325 ⟨by show _ ≤ (1200048 : Nat); omega, by show _ ≤ (5501818 : Nat); omega⟩) (fun r27 G26 H locs hw hR hS => ?_)
          refine lv_icmp_eq hx hb dL_law_328 (tgt := 1227) (by decide) (fun h => ?_) (fun h => ?_)
          · replace hw := hw.1 h
            exact tk_L_law_b1227 E (c18 := cells + 5 + 0 + 0) (s18 := slots + 32 + 0 + 0) (fun G H locs cells slots ls y0 y1 y2 hw hR hS hL hc => ih hR hS hL hw ⟨by omega, by omega⟩) hR hS (hL.sub [0, 1, 2, 3] rfl) hw ⟨by omega, by omega, by omega, by omega⟩
          · replace hw := hw.2 h
            refine lv_iconst hx hb dL_law_331 (v := 0) rfl ?_
            exact absurd hw (by decide)
      by_cases g5 : (xs x3.toNatClampNeg) &&& 63 = 5
      · replace hw := hw.2.2.2.2.2.1 g5
        refine lv_tableIn hx hb dL_law_32 (tgt := 333) (by rw [g5]; decide) (by rw [g5]; decide) (by rw [g5]; rfl) (by decide) ?_
        refine th_aload_n hx hb dL_law_333 rfl (lv_at hL.1 1 rfl) ?_
        refine lv_aload_n hx hb dL_law_334 rfl (lv_at hL.1 0 rfl) ?_
        refine lv_iload_n hx hb dL_law_335 rfl (lv_at hL.1 3 rfl) ?_
        refine lv_iconst hx hb dL_law_336 (v := 1) rfl ?_
        refine lv_iadd hx hb dL_law_337 ?_
        obtain ⟨h0, hw⟩ := hw
        refine va_sld hx hb hX hbl hbA hS h0 dL_law_338 ?_
        refine lv_aload_n hx hb dL_law_339 rfl (lv_at hL.1 0 rfl) ?_
        refine lv_iload_n hx hb dL_law_340 rfl (lv_at hL.1 3 rfl) ?_
        refine lv_iconst hx hb dL_law_341 (v := 2) rfl ?_
        refine lv_iadd hx hb dL_law_342 ?_
        obtain ⟨h0, hw⟩ := hw
        refine va_sld hx hb hX hbl hbA hS h0 dL_law_343 ?_
        refine lv_aload_n hx hb dL_law_344 rfl (lv_at hL.1 0 rfl) ?_
        refine lv_iload_n hx hb dL_law_345 rfl (lv_at hL.1 3 rfl) ?_
        refine lv_iconst hx hb dL_law_346 (v := 3) rfl ?_
        refine lv_iadd hx hb dL_law_347 ?_
        obtain ⟨h0, hw⟩ := hw
        refine va_sld hx hb hX hbl hbA hS h0 dL_law_348 ?_
        obtain ⟨ho, hw⟩ := hw
        refine th_Xki hS (th_XrVX CF hK hSt hR hS ho (ci := 0) rfl (rest := []) (tk_X0_thresh) (cw_L_38 CF hK (by decide +kernel)) hw rfl hL.1.1 rfl th_cn (Nat.le_of_ble_eq_true rfl) dL_law_349 ⟨by show _ ≤ (1200048 : Nat); omega, by show _ ≤ (5501818 : Nat); omega⟩) (fun e9 G9 H locs hw ho hR hS => ?_) (fun r29 G28 H locs hw hR hS => ?_)
        · exact absurd hw id
        · skip
          refine th_aload_n hx hb dL_law_352 rfl (lv_at hL.1 2 rfl) ?_
          refine lv_aload_n hx hb dL_law_353 rfl (lv_at hL.1 0 rfl) ?_
          refine lv_iload_n hx hb dL_law_354 rfl (lv_at hL.1 3 rfl) ?_
          refine lv_iconst hx hb dL_law_355 (v := 1) rfl ?_
          refine lv_iadd hx hb dL_law_356 ?_
          obtain ⟨h0, hw⟩ := hw
          refine va_sld hx hb hX hbl hbA hS h0 dL_law_357 ?_
          refine lv_aload_n hx hb dL_law_358 rfl (lv_at hL.1 0 rfl) ?_
          refine lv_iload_n hx hb dL_law_359 rfl (lv_at hL.1 3 rfl) ?_
          refine lv_iconst hx hb dL_law_360 (v := 2) rfl ?_
          refine lv_iadd hx hb dL_law_361 ?_
          obtain ⟨h0, hw⟩ := hw
          refine va_sld hx hb hX hbl hbA hS h0 dL_law_362 ?_
          refine lv_aload_n hx hb dL_law_363 rfl (lv_at hL.1 0 rfl) ?_
          refine lv_iload_n hx hb dL_law_364 rfl (lv_at hL.1 3 rfl) ?_
          refine lv_iconst hx hb dL_law_365 (v := 3) rfl ?_
          refine lv_iadd hx hb dL_law_366 ?_
          obtain ⟨h0, hw⟩ := hw
          refine va_sld hx hb hX hbl hbA hS h0 dL_law_367 ?_
          obtain ⟨ho, hw⟩ := hw
          refine th_ki hS (th_rV CF hK hSt hR hS ho (ci := 8) rfl (rest := [.int r29]) (tk_X8_thresh) (cw_L_41 CF hK (by decide +kernel)) hw rfl hL.1.1 rfl (th_ci th_cn) (Nat.le_of_ble_eq_true rfl) dL_law_368 ⟨by show _ ≤ (1200048 : Nat); omega, by show _ ≤ (5501818 : Nat); omega⟩) (fun r31 G30 H locs hw hR hS => ?_)
          refine lv_icmp_eq hx hb dL_law_371 (tgt := 1227) (by decide) (fun h => ?_) (fun h => ?_)
          · replace hw := hw.1 h
            exact tk_L_law_b1227 E (c18 := cells + 7 + 0 + 0) (s18 := slots + 48 + 0 + 0) (fun G H locs cells slots ls y0 y1 y2 hw hR hS hL hc => ih hR hS hL hw ⟨by omega, by omega⟩) hR hS (hL.sub [0, 1, 2, 3] rfl) hw ⟨by omega, by omega, by omega, by omega⟩
          · replace hw := hw.2 h
            refine lv_iconst hx hb dL_law_374 (v := 0) rfl ?_
            exact absurd hw (by decide)
      by_cases g6 : (xs x3.toNatClampNeg) &&& 63 = 6
      · replace hw := hw.2.2.2.2.2.2.1 g6
        refine lv_tableIn hx hb dL_law_32 (tgt := 376) (by rw [g6]; decide) (by rw [g6]; decide) (by rw [g6]; rfl) (by decide) ?_
        refine th_aload_n hx hb dL_law_376 rfl (lv_at hL.1 1 rfl) ?_
        refine lv_aload_n hx hb dL_law_377 rfl (lv_at hL.1 0 rfl) ?_
        refine lv_iload_n hx hb dL_law_378 rfl (lv_at hL.1 3 rfl) ?_
        refine lv_iconst hx hb dL_law_379 (v := 1) rfl ?_
        refine lv_iadd hx hb dL_law_380 ?_
        obtain ⟨h0, hw⟩ := hw
        refine va_sld hx hb hX hbl hbA hS h0 dL_law_381 ?_
        refine lv_aload_n hx hb dL_law_382 rfl (lv_at hL.1 0 rfl) ?_
        refine lv_iload_n hx hb dL_law_383 rfl (lv_at hL.1 3 rfl) ?_
        refine lv_iconst hx hb dL_law_384 (v := 2) rfl ?_
        refine lv_iadd hx hb dL_law_385 ?_
        obtain ⟨h0, hw⟩ := hw
        refine va_sld hx hb hX hbl hbA hS h0 dL_law_386 ?_
        obtain ⟨ho, hw⟩ := hw
        refine th_Xki hS (th_XrVX CF hK hSt hR hS ho (ci := 0) rfl (rest := []) (tk_X0_flails) (cw_L_42 CF hK (by decide +kernel)) hw rfl hL.1.1 rfl th_cn (Nat.le_of_ble_eq_true rfl) dL_law_387 ⟨by show _ ≤ (1200048 : Nat); omega, by show _ ≤ (5501818 : Nat); omega⟩) (fun e9 G9 H locs hw ho hR hS => ?_) (fun r33 G32 H locs hw hR hS => ?_)
        · exact absurd hw id
        · skip
          refine th_aload_n hx hb dL_law_390 rfl (lv_at hL.1 2 rfl) ?_
          refine lv_aload_n hx hb dL_law_391 rfl (lv_at hL.1 0 rfl) ?_
          refine lv_iload_n hx hb dL_law_392 rfl (lv_at hL.1 3 rfl) ?_
          refine lv_iconst hx hb dL_law_393 (v := 1) rfl ?_
          refine lv_iadd hx hb dL_law_394 ?_
          obtain ⟨h0, hw⟩ := hw
          refine va_sld hx hb hX hbl hbA hS h0 dL_law_395 ?_
          refine lv_aload_n hx hb dL_law_396 rfl (lv_at hL.1 0 rfl) ?_
          refine lv_iload_n hx hb dL_law_397 rfl (lv_at hL.1 3 rfl) ?_
          refine lv_iconst hx hb dL_law_398 (v := 2) rfl ?_
          refine lv_iadd hx hb dL_law_399 ?_
          obtain ⟨h0, hw⟩ := hw
          refine va_sld hx hb hX hbl hbA hS h0 dL_law_400 ?_
          obtain ⟨ho, hw⟩ := hw
          refine th_ki hS (th_rV CF hK hSt hR hS ho (ci := 8) rfl (rest := [.int r33]) (tk_X8_flails) (cw_L_45 CF hK (by decide +kernel)) hw rfl hL.1.1 rfl (th_ci th_cn) (Nat.le_of_ble_eq_true rfl) dL_law_401 ⟨by show _ ≤ (1200048 : Nat); omega, by show _ ≤ (5501818 : Nat); omega⟩) (fun r35 G34 H locs hw hR hS => ?_)
          refine lv_icmp_eq hx hb dL_law_404 (tgt := 1227) (by decide) (fun h => ?_) (fun h => ?_)
          · replace hw := hw.1 h
            exact tk_L_law_b1227 E (c18 := cells + 2 + 0 + 0) (s18 := slots + 14 + 0 + 0) (fun G H locs cells slots ls y0 y1 y2 hw hR hS hL hc => ih hR hS hL hw ⟨by omega, by omega⟩) hR hS (hL.sub [0, 1, 2, 3] rfl) hw ⟨by omega, by omega, by omega, by omega⟩
          · replace hw := hw.2 h
            refine lv_iconst hx hb dL_law_407 (v := 0) rfl ?_
            exact absurd hw (by decide)
      by_cases g7 : (xs x3.toNatClampNeg) &&& 63 = 7
      · replace hw := hw.2.2.2.2.2.2.2.1 g7
        refine lv_tableIn hx hb dL_law_32 (tgt := 409) (by rw [g7]; decide) (by rw [g7]; decide) (by rw [g7]; rfl) (by decide) ?_
        refine th_aload_n hx hb dL_law_409 rfl (lv_at hL.1 1 rfl) ?_
        refine lv_aload_n hx hb dL_law_410 rfl (lv_at hL.1 0 rfl) ?_
        refine lv_iload_n hx hb dL_law_411 rfl (lv_at hL.1 3 rfl) ?_
        refine lv_iconst hx hb dL_law_412 (v := 1) rfl ?_
        refine lv_iadd hx hb dL_law_413 ?_
        obtain ⟨h0, hw⟩ := hw
        refine va_sld hx hb hX hbl hbA hS h0 dL_law_414 ?_
        refine lv_aload_n hx hb dL_law_415 rfl (lv_at hL.1 0 rfl) ?_
        refine lv_iload_n hx hb dL_law_416 rfl (lv_at hL.1 3 rfl) ?_
        refine lv_iconst hx hb dL_law_417 (v := 2) rfl ?_
        refine lv_iadd hx hb dL_law_418 ?_
        obtain ⟨h0, hw⟩ := hw
        refine va_sld hx hb hX hbl hbA hS h0 dL_law_419 ?_
        obtain ⟨ho, hw⟩ := hw
        refine th_Xki hS (th_XrVX CF hK hSt hR hS ho (ci := 0) rfl (rest := []) (tk_X0_price) (cw_L_46 CF hK (by decide +kernel)) hw rfl hL.1.1 rfl th_cn (Nat.le_of_ble_eq_true rfl) dL_law_420 ⟨by show _ ≤ (1200048 : Nat); omega, by show _ ≤ (5501818 : Nat); omega⟩) (fun e9 G9 H locs hw ho hR hS => ?_) (fun r37 G36 H locs hw hR hS => ?_)
        · exact absurd hw id
        · skip
          refine th_aload_n hx hb dL_law_423 rfl (lv_at hL.1 2 rfl) ?_
          refine lv_aload_n hx hb dL_law_424 rfl (lv_at hL.1 0 rfl) ?_
          refine lv_iload_n hx hb dL_law_425 rfl (lv_at hL.1 3 rfl) ?_
          refine lv_iconst hx hb dL_law_426 (v := 1) rfl ?_
          refine lv_iadd hx hb dL_law_427 ?_
          obtain ⟨h0, hw⟩ := hw
          refine va_sld hx hb hX hbl hbA hS h0 dL_law_428 ?_
          refine lv_aload_n hx hb dL_law_429 rfl (lv_at hL.1 0 rfl) ?_
          refine lv_iload_n hx hb dL_law_430 rfl (lv_at hL.1 3 rfl) ?_
          refine lv_iconst hx hb dL_law_431 (v := 2) rfl ?_
          refine lv_iadd hx hb dL_law_432 ?_
          obtain ⟨h0, hw⟩ := hw
          refine va_sld hx hb hX hbl hbA hS h0 dL_law_433 ?_
          obtain ⟨ho, hw⟩ := hw
          refine th_ki hS (th_rV CF hK hSt hR hS ho (ci := 8) rfl (rest := [.int r37]) (tk_X8_price) (cw_L_49 CF hK (by decide +kernel)) hw rfl hL.1.1 rfl (th_ci th_cn) (Nat.le_of_ble_eq_true rfl) dL_law_434 ⟨by show _ ≤ (1200048 : Nat); omega, by show _ ≤ (5501818 : Nat); omega⟩) (fun r39 G38 H locs hw hR hS => ?_)
          refine lv_icmp_eq hx hb dL_law_437 (tgt := 1227) (by decide) (fun h => ?_) (fun h => ?_)
          · replace hw := hw.1 h
            exact tk_L_law_b1227 E (c18 := cells + 2 + 0 + 0) (s18 := slots + 14 + 0 + 0) (fun G H locs cells slots ls y0 y1 y2 hw hR hS hL hc => ih hR hS hL hw ⟨by omega, by omega⟩) hR hS (hL.sub [0, 1, 2, 3] rfl) hw ⟨by omega, by omega, by omega, by omega⟩
          · replace hw := hw.2 h
            refine lv_iconst hx hb dL_law_440 (v := 0) rfl ?_
            exact absurd hw (by decide)
      by_cases g8 : (xs x3.toNatClampNeg) &&& 63 = 8
      · replace hw := hw.2.2.2.2.2.2.2.2.1 g8
        refine lv_tableIn hx hb dL_law_32 (tgt := 442) (by rw [g8]; decide) (by rw [g8]; decide) (by rw [g8]; rfl) (by decide) ?_
        refine th_aload_n hx hb dL_law_442 rfl (lv_at hL.1 1 rfl) ?_
        refine lv_aload_n hx hb dL_law_443 rfl (lv_at hL.1 0 rfl) ?_
        refine lv_iload_n hx hb dL_law_444 rfl (lv_at hL.1 3 rfl) ?_
        refine lv_iconst hx hb dL_law_445 (v := 1) rfl ?_
        refine lv_iadd hx hb dL_law_446 ?_
        obtain ⟨h0, hw⟩ := hw
        refine va_sld hx hb hX hbl hbA hS h0 dL_law_447 ?_
        refine lv_aload_n hx hb dL_law_448 rfl (lv_at hL.1 0 rfl) ?_
        refine lv_iload_n hx hb dL_law_449 rfl (lv_at hL.1 3 rfl) ?_
        refine lv_iconst hx hb dL_law_450 (v := 2) rfl ?_
        refine lv_iadd hx hb dL_law_451 ?_
        obtain ⟨h0, hw⟩ := hw
        refine va_sld hx hb hX hbl hbA hS h0 dL_law_452 ?_
        refine lv_aload_n hx hb dL_law_453 rfl (lv_at hL.1 0 rfl) ?_
        refine lv_iload_n hx hb dL_law_454 rfl (lv_at hL.1 3 rfl) ?_
        refine lv_iconst hx hb dL_law_455 (v := 3) rfl ?_
        refine lv_iadd hx hb dL_law_456 ?_
        obtain ⟨h0, hw⟩ := hw
        refine va_sld hx hb hX hbl hbA hS h0 dL_law_457 ?_
        obtain ⟨ho, hw⟩ := hw
        refine th_Xki hS (th_XrVX CF hK hSt hR hS ho (ci := 0) rfl (rest := []) (tk_X0_sell) (cw_L_50 CF hK (by decide +kernel)) hw rfl hL.1.1 rfl th_cn (Nat.le_of_ble_eq_true rfl) dL_law_458 ⟨by show _ ≤ (1200048 : Nat); omega, by show _ ≤ (5501818 : Nat); omega⟩) (fun e9 G9 H locs hw ho hR hS => ?_) (fun r41 G40 H locs hw hR hS => ?_)
        · exact absurd hw id
        · skip
          refine th_aload_n hx hb dL_law_461 rfl (lv_at hL.1 2 rfl) ?_
          refine lv_aload_n hx hb dL_law_462 rfl (lv_at hL.1 0 rfl) ?_
          refine lv_iload_n hx hb dL_law_463 rfl (lv_at hL.1 3 rfl) ?_
          refine lv_iconst hx hb dL_law_464 (v := 1) rfl ?_
          refine lv_iadd hx hb dL_law_465 ?_
          obtain ⟨h0, hw⟩ := hw
          refine va_sld hx hb hX hbl hbA hS h0 dL_law_466 ?_
          refine lv_aload_n hx hb dL_law_467 rfl (lv_at hL.1 0 rfl) ?_
          refine lv_iload_n hx hb dL_law_468 rfl (lv_at hL.1 3 rfl) ?_
          refine lv_iconst hx hb dL_law_469 (v := 2) rfl ?_
          refine lv_iadd hx hb dL_law_470 ?_
          obtain ⟨h0, hw⟩ := hw
          refine va_sld hx hb hX hbl hbA hS h0 dL_law_471 ?_
          refine lv_aload_n hx hb dL_law_472 rfl (lv_at hL.1 0 rfl) ?_
          refine lv_iload_n hx hb dL_law_473 rfl (lv_at hL.1 3 rfl) ?_
          refine lv_iconst hx hb dL_law_474 (v := 3) rfl ?_
          refine lv_iadd hx hb dL_law_475 ?_
          obtain ⟨h0, hw⟩ := hw
          refine va_sld hx hb hX hbl hbA hS h0 dL_law_476 ?_
          obtain ⟨ho, hw⟩ := hw
          refine th_ki hS (th_rV CF hK hSt hR hS ho (ci := 8) rfl (rest := [.int r41]) (tk_X8_sell) (cw_L_53 CF hK (by decide +kernel)) hw rfl hL.1.1 rfl (th_ci th_cn) (Nat.le_of_ble_eq_true rfl) dL_law_477 ⟨by show _ ≤ (1200048 : Nat); omega, by show _ ≤ (5501818 : Nat); omega⟩) (fun r43 G42 H locs hw hR hS => ?_)
          refine lv_icmp_eq hx hb dL_law_480 (tgt := 1227) (by decide) (fun h => ?_) (fun h => ?_)
          · replace hw := hw.1 h
            exact tk_L_law_b1227 E (c18 := cells + 5 + 0 + 0) (s18 := slots + 32 + 0 + 0) (fun G H locs cells slots ls y0 y1 y2 hw hR hS hL hc => ih hR hS hL hw ⟨by omega, by omega⟩) hR hS (hL.sub [0, 1, 2, 3] rfl) hw ⟨by omega, by omega, by omega, by omega⟩
          · replace hw := hw.2 h
            refine lv_iconst hx hb dL_law_483 (v := 0) rfl ?_
            exact absurd hw (by decide)
      by_cases g9 : (xs x3.toNatClampNeg) &&& 63 = 9
      · replace hw := hw.2.2.2.2.2.2.2.2.2.1 g9
        refine lv_tableIn hx hb dL_law_32 (tgt := 485) (by rw [g9]; decide) (by rw [g9]; decide) (by rw [g9]; rfl) (by decide) ?_
        refine th_aload_n hx hb dL_law_485 rfl (lv_at hL.1 1 rfl) ?_
        refine lv_aload_n hx hb dL_law_486 rfl (lv_at hL.1 0 rfl) ?_
        refine lv_iload_n hx hb dL_law_487 rfl (lv_at hL.1 3 rfl) ?_
        refine lv_iconst hx hb dL_law_488 (v := 1) rfl ?_
        refine lv_iadd hx hb dL_law_489 ?_
        obtain ⟨h0, hw⟩ := hw
        refine va_sld hx hb hX hbl hbA hS h0 dL_law_490 ?_
        refine lv_aload_n hx hb dL_law_491 rfl (lv_at hL.1 0 rfl) ?_
        refine lv_iload_n hx hb dL_law_492 rfl (lv_at hL.1 3 rfl) ?_
        refine lv_iconst hx hb dL_law_493 (v := 2) rfl ?_
        refine lv_iadd hx hb dL_law_494 ?_
        obtain ⟨h0, hw⟩ := hw
        refine va_sld hx hb hX hbl hbA hS h0 dL_law_495 ?_
        obtain ⟨ho, hw⟩ := hw
        refine th_Xki hS (th_XrVX CF hK hSt hR hS ho (ci := 0) rfl (rest := []) (tk_X0_settle) (cw_L_54 CF hK (by decide +kernel)) hw rfl hL.1.1 rfl th_cn (Nat.le_of_ble_eq_true rfl) dL_law_496 ⟨by show _ ≤ (1200048 : Nat); omega, by show _ ≤ (5501818 : Nat); omega⟩) (fun e9 G9 H locs hw ho hR hS => ?_) (fun r45 G44 H locs hw hR hS => ?_)
        · exact absurd hw id
        · skip
          refine th_aload_n hx hb dL_law_499 rfl (lv_at hL.1 2 rfl) ?_
          refine lv_aload_n hx hb dL_law_500 rfl (lv_at hL.1 0 rfl) ?_
          refine lv_iload_n hx hb dL_law_501 rfl (lv_at hL.1 3 rfl) ?_
          refine lv_iconst hx hb dL_law_502 (v := 1) rfl ?_
          refine lv_iadd hx hb dL_law_503 ?_
          obtain ⟨h0, hw⟩ := hw
          refine va_sld hx hb hX hbl hbA hS h0 dL_law_504 ?_
          refine lv_aload_n hx hb dL_law_505 rfl (lv_at hL.1 0 rfl) ?_
          refine lv_iload_n hx hb dL_law_506 rfl (lv_at hL.1 3 rfl) ?_
          refine lv_iconst hx hb dL_law_507 (v := 2) rfl ?_
          refine lv_iadd hx hb dL_law_508 ?_
          obtain ⟨h0, hw⟩ := hw
          refine va_sld hx hb hX hbl hbA hS h0 dL_law_509 ?_
          obtain ⟨ho, hw⟩ := hw
          refine th_ki hS (th_rV CF hK hSt hR hS ho (ci := 8) rfl (rest := [.int r45]) (tk_X8_settle) (cw_L_57 CF hK (by decide +kernel)) hw rfl hL.1.1 rfl (th_ci th_cn) (Nat.le_of_ble_eq_true rfl) dL_law_510 ⟨by show _ ≤ (1200048 : Nat); omega, by show _ ≤ (5501818 : Nat); omega⟩) (fun r47 G46 H locs hw hR hS => ?_)
          refine lv_icmp_eq hx hb dL_law_513 (tgt := 1227) (by decide) (fun h => ?_) (fun h => ?_)
          · replace hw := hw.1 h
            exact tk_L_law_b1227 E (c18 := cells + 4 + 0 + 0) (s18 := slots + 24 + 0 + 0) (fun G H locs cells slots ls y0 y1 y2 hw hR hS hL hc => ih hR hS hL hw ⟨by omega, by omega⟩) hR hS (hL.sub [0, 1, 2, 3] rfl) hw ⟨by omega, by omega, by omega, by omega⟩
          · replace hw := hw.2 h
            refine lv_iconst hx hb dL_law_516 (v := 0) rfl ?_
            exact absurd hw (by decide)
      by_cases g10 : (xs x3.toNatClampNeg) &&& 63 = 10
      · replace hw := hw.2.2.2.2.2.2.2.2.2.2.1 g10
        refine lv_tableIn hx hb dL_law_32 (tgt := 518) (by rw [g10]; decide) (by rw [g10]; decide) (by rw [g10]; rfl) (by decide) ?_
        refine th_aload_n hx hb dL_law_518 rfl (lv_at hL.1 1 rfl) ?_
        refine lv_aload_n hx hb dL_law_519 rfl (lv_at hL.1 0 rfl) ?_
        refine lv_iload_n hx hb dL_law_520 rfl (lv_at hL.1 3 rfl) ?_
        refine lv_iconst hx hb dL_law_521 (v := 1) rfl ?_
        refine lv_iadd hx hb dL_law_522 ?_
        obtain ⟨h0, hw⟩ := hw
        refine va_sld hx hb hX hbl hbA hS h0 dL_law_523 ?_
        obtain ⟨ho, hw⟩ := hw
        refine th_Xki hS (th_XrVX CF hK hSt hR hS ho (ci := 0) rfl (rest := []) (tk_X0_stop) (cw_L_58 CF hK (by decide +kernel)) hw rfl hL.1.1 rfl th_cn (Nat.le_of_ble_eq_true rfl) dL_law_524 ⟨by show _ ≤ (1200048 : Nat); omega, by show _ ≤ (5501818 : Nat); omega⟩) (fun e9 G9 H locs hw ho hR hS => ?_) (fun r49 G48 H locs hw hR hS => ?_)
        · exact absurd hw id
        · skip
          refine th_aload_n hx hb dL_law_527 rfl (lv_at hL.1 2 rfl) ?_
          refine lv_aload_n hx hb dL_law_528 rfl (lv_at hL.1 0 rfl) ?_
          refine lv_iload_n hx hb dL_law_529 rfl (lv_at hL.1 3 rfl) ?_
          refine lv_iconst hx hb dL_law_530 (v := 1) rfl ?_
          refine lv_iadd hx hb dL_law_531 ?_
          obtain ⟨h0, hw⟩ := hw
          refine va_sld hx hb hX hbl hbA hS h0 dL_law_532 ?_
          obtain ⟨ho, hw⟩ := hw
          refine th_ki hS (th_rV CF hK hSt hR hS ho (ci := 8) rfl (rest := [.int r49]) (tk_X8_stop) (cw_L_61 CF hK (by decide +kernel)) hw rfl hL.1.1 rfl (th_ci th_cn) (Nat.le_of_ble_eq_true rfl) dL_law_533 ⟨by show _ ≤ (1200048 : Nat); omega, by show _ ≤ (5501818 : Nat); omega⟩) (fun r51 G50 H locs hw hR hS => ?_)
          refine lv_icmp_eq hx hb dL_law_536 (tgt := 1227) (by decide) (fun h => ?_) (fun h => ?_)
          · replace hw := hw.1 h
            exact tk_L_law_b1227 E (c18 := cells + 2 + 0 + 0) (s18 := slots + 15 + 0 + 0) (fun G H locs cells slots ls y0 y1 y2 hw hR hS hL hc => ih hR hS hL hw ⟨by omega, by omega⟩) hR hS (hL.sub [0, 1, 2, 3] rfl) hw ⟨by omega, by omega, by omega, by omega⟩
          · replace hw := hw.2 h
            refine lv_iconst hx hb dL_law_539 (v := 0) rfl ?_
            exact absurd hw (by decide)
      by_cases g11 : (xs x3.toNatClampNeg) &&& 63 = 11
      · replace hw := hw.2.2.2.2.2.2.2.2.2.2.2.1 g11
        refine lv_tableIn hx hb dL_law_32 (tgt := 541) (by rw [g11]; decide) (by rw [g11]; decide) (by rw [g11]; rfl) (by decide) ?_
        refine th_aload_n hx hb dL_law_541 rfl (lv_at hL.1 1 rfl) ?_
        refine lv_aload_n hx hb dL_law_542 rfl (lv_at hL.1 0 rfl) ?_
        refine lv_iload_n hx hb dL_law_543 rfl (lv_at hL.1 3 rfl) ?_
        refine lv_iconst hx hb dL_law_544 (v := 1) rfl ?_
        refine lv_iadd hx hb dL_law_545 ?_
        obtain ⟨h0, hw⟩ := hw
        refine va_sld hx hb hX hbl hbA hS h0 dL_law_546 ?_
        obtain ⟨ho, hw⟩ := hw
        refine th_Xki hS (th_XrVX CF hK hSt hR hS ho (ci := 0) rfl (rest := []) (tk_X0_cat) (cw_L_62 CF hK (by decide +kernel)) hw rfl hL.1.1 rfl th_cn (Nat.le_of_ble_eq_true rfl) dL_law_547 ⟨by show _ ≤ (1200048 : Nat); omega, by show _ ≤ (5501818 : Nat); omega⟩) (fun e9 G9 H locs hw ho hR hS => ?_) (fun r53 G52 H locs hw hR hS => ?_)
        · exact absurd hw id
        · skip
          refine th_aload_n hx hb dL_law_550 rfl (lv_at hL.1 2 rfl) ?_
          refine lv_aload_n hx hb dL_law_551 rfl (lv_at hL.1 0 rfl) ?_
          refine lv_iload_n hx hb dL_law_552 rfl (lv_at hL.1 3 rfl) ?_
          refine lv_iconst hx hb dL_law_553 (v := 1) rfl ?_
          refine lv_iadd hx hb dL_law_554 ?_
          obtain ⟨h0, hw⟩ := hw
          refine va_sld hx hb hX hbl hbA hS h0 dL_law_555 ?_
          obtain ⟨ho, hw⟩ := hw
          refine th_ki hS (th_rV CF hK hSt hR hS ho (ci := 8) rfl (rest := [.int r53]) (tk_X8_cat) (cw_L_65 CF hK (by decide +kernel)) hw rfl hL.1.1 rfl (th_ci th_cn) (Nat.le_of_ble_eq_true rfl) dL_law_556 ⟨by show _ ≤ (1200048 : Nat); omega, by show _ ≤ (5501818 : Nat); omega⟩) (fun r55 G54 H locs hw hR hS => ?_)
          refine lv_icmp_eq hx hb dL_law_559 (tgt := 1227) (by decide) (fun h => ?_) (fun h => ?_)
          · replace hw := hw.1 h
            exact tk_L_law_b1227 E (c18 := cells + 1 + 0 + 0) (s18 := slots + 7 + 0 + 0) (fun G H locs cells slots ls y0 y1 y2 hw hR hS hL hc => ih hR hS hL hw ⟨by omega, by omega⟩) hR hS (hL.sub [0, 1, 2, 3] rfl) hw ⟨by omega, by omega, by omega, by omega⟩
          · replace hw := hw.2 h
            refine lv_iconst hx hb dL_law_562 (v := 0) rfl ?_
            exact absurd hw (by decide)
      by_cases g12 : (xs x3.toNatClampNeg) &&& 63 = 12
      · replace hw := hw.2.2.2.2.2.2.2.2.2.2.2.2.1 g12
        refine lv_tableIn hx hb dL_law_32 (tgt := 564) (by rw [g12]; decide) (by rw [g12]; decide) (by rw [g12]; rfl) (by decide) ?_
        refine th_aload_n hx hb dL_law_564 rfl (lv_at hL.1 1 rfl) ?_
        refine lv_aload_n hx hb dL_law_565 rfl (lv_at hL.1 0 rfl) ?_
        refine lv_iload_n hx hb dL_law_566 rfl (lv_at hL.1 3 rfl) ?_
        refine lv_iconst hx hb dL_law_567 (v := 1) rfl ?_
        refine lv_iadd hx hb dL_law_568 ?_
        obtain ⟨h0, hw⟩ := hw
        refine va_sld hx hb hX hbl hbA hS h0 dL_law_569 ?_
        obtain ⟨ho, hw⟩ := hw
        refine th_Xki hS (th_XrVX CF hK hSt hR hS ho (ci := 0) rfl (rest := []) (tk_X0_pass) (cw_L_66 CF hK (by decide +kernel)) hw rfl hL.1.1 rfl th_cn (Nat.le_of_ble_eq_true rfl) dL_law_570 ⟨by show _ ≤ (1200048 : Nat); omega, by show _ ≤ (5501818 : Nat); omega⟩) (fun e9 G9 H locs hw ho hR hS => ?_) (fun r57 G56 H locs hw hR hS => ?_)
        · exact absurd hw id
        · skip
          refine th_aload_n hx hb dL_law_573 rfl (lv_at hL.1 2 rfl) ?_
          refine lv_aload_n hx hb dL_law_574 rfl (lv_at hL.1 0 rfl) ?_
          refine lv_iload_n hx hb dL_law_575 rfl (lv_at hL.1 3 rfl) ?_
          refine lv_iconst hx hb dL_law_576 (v := 1) rfl ?_
          refine lv_iadd hx hb dL_law_577 ?_
          obtain ⟨h0, hw⟩ := hw
          refine va_sld hx hb hX hbl hbA hS h0 dL_law_578 ?_
          obtain ⟨ho, hw⟩ := hw
          refine th_ki hS (th_rV CF hK hSt hR hS ho (ci := 8) rfl (rest := [.int r57]) (tk_X8_pass) (cw_L_69 CF hK (by decide +kernel)) hw rfl hL.1.1 rfl (th_ci th_cn) (Nat.le_of_ble_eq_true rfl) dL_law_579 ⟨by show _ ≤ (1200048 : Nat); omega, by show _ ≤ (5501818 : Nat); omega⟩) (fun r59 G58 H locs hw hR hS => ?_)
          refine lv_icmp_eq hx hb dL_law_582 (tgt := 1227) (by decide) (fun h => ?_) (fun h => ?_)
          · replace hw := hw.1 h
            exact tk_L_law_b1227 E (c18 := cells + 1 + 0 + 0) (s18 := slots + 7 + 0 + 0) (fun G H locs cells slots ls y0 y1 y2 hw hR hS hL hc => ih hR hS hL hw ⟨by omega, by omega⟩) hR hS (hL.sub [0, 1, 2, 3] rfl) hw ⟨by omega, by omega, by omega, by omega⟩
          · replace hw := hw.2 h
            refine lv_iconst hx hb dL_law_585 (v := 0) rfl ?_
            exact absurd hw (by decide)
      by_cases g13 : (xs x3.toNatClampNeg) &&& 63 = 13
      · replace hw := hw.2.2.2.2.2.2.2.2.2.2.2.2.2.1 g13
        refine lv_tableIn hx hb dL_law_32 (tgt := 587) (by rw [g13]; decide) (by rw [g13]; decide) (by rw [g13]; rfl) (by decide) ?_
        refine th_aload_n hx hb dL_law_587 rfl (lv_at hL.1 1 rfl) ?_
        obtain ⟨ho, hw⟩ := hw
        refine th_Xki hS (th_XrVX CF hK hSt hR hS ho (ci := 0) rfl (rest := []) (tk_X0_script) (cw_L_70 CF hK (by decide +kernel)) hw rfl hL.1.1 rfl th_cn (Nat.le_of_ble_eq_true rfl) dL_law_588 ⟨by show _ ≤ (1200048 : Nat); omega, by show _ ≤ (5501818 : Nat); omega⟩) (fun e9 G9 H locs hw ho hR hS => ?_) (fun r61 G60 H locs hw hR hS => ?_)
        · exact absurd hw id
        · skip
          refine th_aload_n hx hb dL_law_591 rfl (lv_at hL.1 2 rfl) ?_
          obtain ⟨ho, hw⟩ := hw
          refine th_ki hS (th_rV CF hK hSt hR hS ho (ci := 8) rfl (rest := [.int r61]) (tk_X8_script) (cw_L_73 CF hK (by decide +kernel)) hw rfl hL.1.1 rfl (th_ci th_cn) (Nat.le_of_ble_eq_true rfl) dL_law_592 ⟨by show _ ≤ (1200048 : Nat); omega, by show _ ≤ (5501818 : Nat); omega⟩) (fun r63 G62 H locs hw hR hS => ?_)
          refine lv_icmp_eq hx hb dL_law_595 (tgt := 1227) (by decide) (fun h => ?_) (fun h => ?_)
          · replace hw := hw.1 h
            exact tk_L_law_b1227 E (c18 := cells + 1342 + 0 + 0) (s18 := slots + 8122 + 0 + 0) (fun G H locs cells slots ls y0 y1 y2 hw hR hS hL hc => ih hR hS hL hw ⟨by omega, by omega⟩) hR hS (hL.sub [0, 1, 2, 3] rfl) hw ⟨by omega, by omega, by omega, by omega⟩
          · replace hw := hw.2 h
            refine lv_iconst hx hb dL_law_598 (v := 0) rfl ?_
            exact absurd hw (by decide)
      by_cases g14 : (xs x3.toNatClampNeg) &&& 63 = 14
      · replace hw := hw.2.2.2.2.2.2.2.2.2.2.2.2.2.2.1 g14
        refine lv_tableIn hx hb dL_law_32 (tgt := 600) (by rw [g14]; decide) (by rw [g14]; decide) (by rw [g14]; rfl) (by decide) ?_
        refine th_aload_n hx hb dL_law_600 rfl (lv_at hL.1 1 rfl) ?_
        obtain ⟨ho, hw⟩ := hw
        refine th_ki hS (th_rV CF hK hSt hR hS ho (ci := 0) rfl (rest := []) (tk_X0_fault) (cw_L_74 CF hK (by decide +kernel)) hw rfl hL.1.1 rfl th_cn (Nat.le_of_ble_eq_true rfl) dL_law_601 ⟨by show _ ≤ (1200048 : Nat); omega, by show _ ≤ (5501818 : Nat); omega⟩) (fun r65 G64 H locs hw hR hS => ?_)
        refine th_aload_n hx hb dL_law_604 rfl (lv_at hL.1 2 rfl) ?_
        obtain ⟨ho, hw⟩ := hw
        refine th_ki hS (th_rV CF hK hSt hR hS ho (ci := 8) rfl (rest := [.int r65]) (tk_X8_fault) (cw_L_77 CF hK (by decide +kernel)) hw rfl hL.1.1 rfl (th_ci th_cn) (Nat.le_of_ble_eq_true rfl) dL_law_605 ⟨by show _ ≤ (1200048 : Nat); omega, by show _ ≤ (5501818 : Nat); omega⟩) (fun r67 G66 H locs hw hR hS => ?_)
        refine lv_icmp_eq hx hb dL_law_608 (tgt := 1227) (by decide) (fun h => ?_) (fun h => ?_)
        · replace hw := hw.1 h
          exact tk_L_law_b1227 E (c18 := cells + 0 + 0 + 0) (s18 := slots + 0 + 0 + 0) (fun G H locs cells slots ls y0 y1 y2 hw hR hS hL hc => ih hR hS hL hw ⟨by omega, by omega⟩) hR hS (hL.sub [0, 1, 2, 3] rfl) hw ⟨by omega, by omega, by omega, by omega⟩
        · replace hw := hw.2 h
          refine lv_iconst hx hb dL_law_611 (v := 0) rfl ?_
          exact absurd hw (by decide)
      by_cases g15 : (xs x3.toNatClampNeg) &&& 63 = 15
      · replace hw := hw.2.2.2.2.2.2.2.2.2.2.2.2.2.2.2.1 g15
        refine lv_tableIn hx hb dL_law_32 (tgt := 613) (by rw [g15]; decide) (by rw [g15]; decide) (by rw [g15]; rfl) (by decide) ?_
        refine th_aload_n hx hb dL_law_613 rfl (lv_at hL.1 1 rfl) ?_
        refine lv_aload_n hx hb dL_law_614 rfl (lv_at hL.1 0 rfl) ?_
        refine lv_iload_n hx hb dL_law_615 rfl (lv_at hL.1 3 rfl) ?_
        refine lv_iconst hx hb dL_law_616 (v := 1) rfl ?_
        refine lv_iadd hx hb dL_law_617 ?_
        obtain ⟨h0, hw⟩ := hw
        refine va_sld hx hb hX hbl hbA hS h0 dL_law_618 ?_
        refine lv_aload_n hx hb dL_law_619 rfl (lv_at hL.1 0 rfl) ?_
        refine lv_iload_n hx hb dL_law_620 rfl (lv_at hL.1 3 rfl) ?_
        refine lv_iconst hx hb dL_law_621 (v := 2) rfl ?_
        refine lv_iadd hx hb dL_law_622 ?_
        obtain ⟨h0, hw⟩ := hw
        refine va_sld hx hb hX hbl hbA hS h0 dL_law_623 ?_
        obtain ⟨ho, hw⟩ := hw
        refine th_ki hS (th_rV CF hK hSt hR hS ho (ci := 0) rfl (rest := []) (tk_X0_reason) (cw_L_78 CF hK (by decide +kernel)) hw rfl hL.1.1 rfl th_cn (Nat.le_of_ble_eq_true rfl) dL_law_624 ⟨by show _ ≤ (1200048 : Nat); omega, by show _ ≤ (5501818 : Nat); omega⟩) (fun r69 G68 H locs hw hR hS => ?_)
        refine th_aload_n hx hb dL_law_627 rfl (lv_at hL.1 2 rfl) ?_
        refine lv_aload_n hx hb dL_law_628 rfl (lv_at hL.1 0 rfl) ?_
        refine lv_iload_n hx hb dL_law_629 rfl (lv_at hL.1 3 rfl) ?_
        refine lv_iconst hx hb dL_law_630 (v := 1) rfl ?_
        refine lv_iadd hx hb dL_law_631 ?_
        obtain ⟨h0, hw⟩ := hw
        refine va_sld hx hb hX hbl hbA hS h0 dL_law_632 ?_
        refine lv_aload_n hx hb dL_law_633 rfl (lv_at hL.1 0 rfl) ?_
        refine lv_iload_n hx hb dL_law_634 rfl (lv_at hL.1 3 rfl) ?_
        refine lv_iconst hx hb dL_law_635 (v := 2) rfl ?_
        refine lv_iadd hx hb dL_law_636 ?_
        obtain ⟨h0, hw⟩ := hw
        refine va_sld hx hb hX hbl hbA hS h0 dL_law_637 ?_
        obtain ⟨ho, hw⟩ := hw
        refine th_ki hS (th_rV CF hK hSt hR hS ho (ci := 8) rfl (rest := [.int r69]) (tk_X8_reason) (cw_L_81 CF hK (by decide +kernel)) hw rfl hL.1.1 rfl (th_ci th_cn) (Nat.le_of_ble_eq_true rfl) dL_law_638 ⟨by show _ ≤ (1200048 : Nat); omega, by show _ ≤ (5501818 : Nat); omega⟩) (fun r71 G70 H locs hw hR hS => ?_)
        refine lv_icmp_eq hx hb dL_law_641 (tgt := 1227) (by decide) (fun h => ?_) (fun h => ?_)
        · replace hw := hw.1 h
          exact tk_L_law_b1227 E (c18 := cells + 0 + 0 + 0) (s18 := slots + 0 + 0 + 0) (fun G H locs cells slots ls y0 y1 y2 hw hR hS hL hc => ih hR hS hL hw ⟨by omega, by omega⟩) hR hS (hL.sub [0, 1, 2, 3] rfl) hw ⟨by omega, by omega, by omega, by omega⟩
        · replace hw := hw.2 h
          refine lv_iconst hx hb dL_law_644 (v := 0) rfl ?_
          exact absurd hw (by decide)
      by_cases g16 : (xs x3.toNatClampNeg) &&& 63 = 16
      · replace hw := hw.2.2.2.2.2.2.2.2.2.2.2.2.2.2.2.2.1 g16
        refine lv_tableIn hx hb dL_law_32 (tgt := 646) (by rw [g16]; decide) (by rw [g16]; decide) (by rw [g16]; rfl) (by decide) ?_
        refine th_aload_n hx hb dL_law_646 rfl (lv_at hL.1 1 rfl) ?_
        refine lv_aload_n hx hb dL_law_647 rfl (lv_at hL.1 0 rfl) ?_
        refine lv_iload_n hx hb dL_law_648 rfl (lv_at hL.1 3 rfl) ?_
        refine lv_iconst hx hb dL_law_649 (v := 1) rfl ?_
        refine lv_iadd hx hb dL_law_650 ?_
        obtain ⟨h0, hw⟩ := hw
        refine va_sld hx hb hX hbl hbA hS h0 dL_law_651 ?_
        refine lv_aload_n hx hb dL_law_652 rfl (lv_at hL.1 0 rfl) ?_
        refine lv_iload_n hx hb dL_law_653 rfl (lv_at hL.1 3 rfl) ?_
        refine lv_iconst hx hb dL_law_654 (v := 2) rfl ?_
        refine lv_iadd hx hb dL_law_655 ?_
        obtain ⟨h0, hw⟩ := hw
        refine va_sld hx hb hX hbl hbA hS h0 dL_law_656 ?_
        obtain ⟨ho, hw⟩ := hw
        refine th_ki hS (th_rV CF hK hSt hR hS ho (ci := 0) rfl (rest := []) (tk_X0_parishOf) (cw_L_82 CF hK (by decide +kernel)) hw rfl hL.1.1 rfl th_cn (Nat.le_of_ble_eq_true rfl) dL_law_657 ⟨by show _ ≤ (1200048 : Nat); omega, by show _ ≤ (5501818 : Nat); omega⟩) (fun r73 G72 H locs hw hR hS => ?_)
        refine th_aload_n hx hb dL_law_660 rfl (lv_at hL.1 2 rfl) ?_
        refine lv_aload_n hx hb dL_law_661 rfl (lv_at hL.1 0 rfl) ?_
        refine lv_iload_n hx hb dL_law_662 rfl (lv_at hL.1 3 rfl) ?_
        refine lv_iconst hx hb dL_law_663 (v := 1) rfl ?_
        refine lv_iadd hx hb dL_law_664 ?_
        obtain ⟨h0, hw⟩ := hw
        refine va_sld hx hb hX hbl hbA hS h0 dL_law_665 ?_
        refine lv_aload_n hx hb dL_law_666 rfl (lv_at hL.1 0 rfl) ?_
        refine lv_iload_n hx hb dL_law_667 rfl (lv_at hL.1 3 rfl) ?_
        refine lv_iconst hx hb dL_law_668 (v := 2) rfl ?_
        refine lv_iadd hx hb dL_law_669 ?_
        obtain ⟨h0, hw⟩ := hw
        refine va_sld hx hb hX hbl hbA hS h0 dL_law_670 ?_
        obtain ⟨ho, hw⟩ := hw
        refine th_ki hS (th_rV CF hK hSt hR hS ho (ci := 8) rfl (rest := [.int r73]) (tk_X8_parishOf) (cw_L_85 CF hK (by decide +kernel)) hw rfl hL.1.1 rfl (th_ci th_cn) (Nat.le_of_ble_eq_true rfl) dL_law_671 ⟨by show _ ≤ (1200048 : Nat); omega, by show _ ≤ (5501818 : Nat); omega⟩) (fun r75 G74 H locs hw hR hS => ?_)
        refine lv_icmp_eq hx hb dL_law_674 (tgt := 1227) (by decide) (fun h => ?_) (fun h => ?_)
        · replace hw := hw.1 h
          exact tk_L_law_b1227 E (c18 := cells + 5 + 0 + 0) (s18 := slots + 10 + 0 + 0) (fun G H locs cells slots ls y0 y1 y2 hw hR hS hL hc => ih hR hS hL hw ⟨by omega, by omega⟩) hR hS (hL.sub [0, 1, 2, 3] rfl) hw ⟨by omega, by omega, by omega, by omega⟩
        · replace hw := hw.2 h
          refine lv_iconst hx hb dL_law_677 (v := 0) rfl ?_
          exact absurd hw (by decide)
      by_cases g17 : (xs x3.toNatClampNeg) &&& 63 = 17
      · replace hw := hw.2.2.2.2.2.2.2.2.2.2.2.2.2.2.2.2.2.1 g17
        refine lv_tableIn hx hb dL_law_32 (tgt := 679) (by rw [g17]; decide) (by rw [g17]; decide) (by rw [g17]; rfl) (by decide) ?_
        refine th_aload_n hx hb dL_law_679 rfl (lv_at hL.1 1 rfl) ?_
        refine lv_aload_n hx hb dL_law_680 rfl (lv_at hL.1 0 rfl) ?_
        refine lv_iload_n hx hb dL_law_681 rfl (lv_at hL.1 3 rfl) ?_
        refine lv_iconst hx hb dL_law_682 (v := 1) rfl ?_
        refine lv_iadd hx hb dL_law_683 ?_
        obtain ⟨h0, hw⟩ := hw
        refine va_sld hx hb hX hbl hbA hS h0 dL_law_684 ?_
        refine lv_aload_n hx hb dL_law_685 rfl (lv_at hL.1 0 rfl) ?_
        refine lv_iload_n hx hb dL_law_686 rfl (lv_at hL.1 3 rfl) ?_
        refine lv_iconst hx hb dL_law_687 (v := 2) rfl ?_
        refine lv_iadd hx hb dL_law_688 ?_
        obtain ⟨h0, hw⟩ := hw
        refine va_sld hx hb hX hbl hbA hS h0 dL_law_689 ?_
        obtain ⟨ho, hw⟩ := hw
        refine th_ki hS (th_rV CF hK hSt hR hS ho (ci := 0) rfl (rest := []) (tk_X0_bayOf) (cw_L_86 CF hK (by decide +kernel)) hw rfl hL.1.1 rfl th_cn (Nat.le_of_ble_eq_true rfl) dL_law_690 ⟨by show _ ≤ (1200048 : Nat); omega, by show _ ≤ (5501818 : Nat); omega⟩) (fun r77 G76 H locs hw hR hS => ?_)
        refine th_aload_n hx hb dL_law_693 rfl (lv_at hL.1 2 rfl) ?_
        refine lv_aload_n hx hb dL_law_694 rfl (lv_at hL.1 0 rfl) ?_
        refine lv_iload_n hx hb dL_law_695 rfl (lv_at hL.1 3 rfl) ?_
        refine lv_iconst hx hb dL_law_696 (v := 1) rfl ?_
        refine lv_iadd hx hb dL_law_697 ?_
        obtain ⟨h0, hw⟩ := hw
        refine va_sld hx hb hX hbl hbA hS h0 dL_law_698 ?_
        refine lv_aload_n hx hb dL_law_699 rfl (lv_at hL.1 0 rfl) ?_
        refine lv_iload_n hx hb dL_law_700 rfl (lv_at hL.1 3 rfl) ?_
        refine lv_iconst hx hb dL_law_701 (v := 2) rfl ?_
        refine lv_iadd hx hb dL_law_702 ?_
        obtain ⟨h0, hw⟩ := hw
        refine va_sld hx hb hX hbl hbA hS h0 dL_law_703 ?_
        obtain ⟨ho, hw⟩ := hw
        refine th_ki hS (th_rV CF hK hSt hR hS ho (ci := 8) rfl (rest := [.int r77]) (tk_X8_bayOf) (cw_L_89 CF hK (by decide +kernel)) hw rfl hL.1.1 rfl (th_ci th_cn) (Nat.le_of_ble_eq_true rfl) dL_law_704 ⟨by show _ ≤ (1200048 : Nat); omega, by show _ ≤ (5501818 : Nat); omega⟩) (fun r79 G78 H locs hw hR hS => ?_)
        refine lv_icmp_eq hx hb dL_law_707 (tgt := 1227) (by decide) (fun h => ?_) (fun h => ?_)
        · replace hw := hw.1 h
          exact tk_L_law_b1227 E (c18 := cells + 1 + 0 + 0) (s18 := slots + 2 + 0 + 0) (fun G H locs cells slots ls y0 y1 y2 hw hR hS hL hc => ih hR hS hL hw ⟨by omega, by omega⟩) hR hS (hL.sub [0, 1, 2, 3] rfl) hw ⟨by omega, by omega, by omega, by omega⟩
        · replace hw := hw.2 h
          refine lv_iconst hx hb dL_law_710 (v := 0) rfl ?_
          exact absurd hw (by decide)
      by_cases g18 : (xs x3.toNatClampNeg) &&& 63 = 18
      · replace hw := hw.2.2.2.2.2.2.2.2.2.2.2.2.2.2.2.2.2.2.1 g18
        refine lv_tableIn hx hb dL_law_32 (tgt := 712) (by rw [g18]; decide) (by rw [g18]; decide) (by rw [g18]; rfl) (by decide) ?_
        refine th_aload_n hx hb dL_law_712 rfl (lv_at hL.1 1 rfl) ?_
        refine lv_aload_n hx hb dL_law_713 rfl (lv_at hL.1 0 rfl) ?_
        refine lv_iload_n hx hb dL_law_714 rfl (lv_at hL.1 3 rfl) ?_
        refine lv_iconst hx hb dL_law_715 (v := 1) rfl ?_
        refine lv_iadd hx hb dL_law_716 ?_
        obtain ⟨h0, hw⟩ := hw
        refine va_sld hx hb hX hbl hbA hS h0 dL_law_717 ?_
        refine lv_aload_n hx hb dL_law_718 rfl (lv_at hL.1 0 rfl) ?_
        refine lv_iload_n hx hb dL_law_719 rfl (lv_at hL.1 3 rfl) ?_
        refine lv_iconst hx hb dL_law_720 (v := 2) rfl ?_
        refine lv_iadd hx hb dL_law_721 ?_
        obtain ⟨h0, hw⟩ := hw
        refine va_sld hx hb hX hbl hbA hS h0 dL_law_722 ?_
        refine lv_aload_n hx hb dL_law_723 rfl (lv_at hL.1 0 rfl) ?_
        refine lv_iload_n hx hb dL_law_724 rfl (lv_at hL.1 3 rfl) ?_
        refine lv_iconst hx hb dL_law_725 (v := 3) rfl ?_
        refine lv_iadd hx hb dL_law_726 ?_
        obtain ⟨h0, hw⟩ := hw
        refine va_sld hx hb hX hbl hbA hS h0 dL_law_727 ?_
        obtain ⟨ho, hw⟩ := hw
        refine th_ki hS (th_rV CF hK hSt hR hS ho (ci := 0) rfl (rest := []) (tk_X0_lotOf) (cw_L_90 CF hK (by decide +kernel)) hw rfl hL.1.1 rfl th_cn (Nat.le_of_ble_eq_true rfl) dL_law_728 ⟨by show _ ≤ (1200048 : Nat); omega, by show _ ≤ (5501818 : Nat); omega⟩) (fun r81 G80 H locs hw hR hS => ?_)
        refine th_aload_n hx hb dL_law_731 rfl (lv_at hL.1 2 rfl) ?_
        refine lv_aload_n hx hb dL_law_732 rfl (lv_at hL.1 0 rfl) ?_
        refine lv_iload_n hx hb dL_law_733 rfl (lv_at hL.1 3 rfl) ?_
        refine lv_iconst hx hb dL_law_734 (v := 1) rfl ?_
        refine lv_iadd hx hb dL_law_735 ?_
        obtain ⟨h0, hw⟩ := hw
        refine va_sld hx hb hX hbl hbA hS h0 dL_law_736 ?_
        refine lv_aload_n hx hb dL_law_737 rfl (lv_at hL.1 0 rfl) ?_
        refine lv_iload_n hx hb dL_law_738 rfl (lv_at hL.1 3 rfl) ?_
        refine lv_iconst hx hb dL_law_739 (v := 2) rfl ?_
        refine lv_iadd hx hb dL_law_740 ?_
        obtain ⟨h0, hw⟩ := hw
        refine va_sld hx hb hX hbl hbA hS h0 dL_law_741 ?_
        refine lv_aload_n hx hb dL_law_742 rfl (lv_at hL.1 0 rfl) ?_
        refine lv_iload_n hx hb dL_law_743 rfl (lv_at hL.1 3 rfl) ?_
        refine lv_iconst hx hb dL_law_744 (v := 3) rfl ?_
        refine lv_iadd hx hb dL_law_745 ?_
        obtain ⟨h0, hw⟩ := hw
        refine va_sld hx hb hX hbl hbA hS h0 dL_law_746 ?_
        obtain ⟨ho, hw⟩ := hw
        refine th_ki hS (th_rV CF hK hSt hR hS ho (ci := 8) rfl (rest := [.int r81]) (tk_X8_lotOf) (cw_L_93 CF hK (by decide +kernel)) hw rfl hL.1.1 rfl (th_ci th_cn) (Nat.le_of_ble_eq_true rfl) dL_law_747 ⟨by show _ ≤ (1200048 : Nat); omega, by show _ ≤ (5501818 : Nat); omega⟩) (fun r83 G82 H locs hw hR hS => ?_)
        refine lv_icmp_eq hx hb dL_law_750 (tgt := 1227) (by decide) (fun h => ?_) (fun h => ?_)
        · replace hw := hw.1 h
          exact tk_L_law_b1227 E (c18 := cells + 0 + 0 + 0) (s18 := slots + 0 + 0 + 0) (fun G H locs cells slots ls y0 y1 y2 hw hR hS hL hc => ih hR hS hL hw ⟨by omega, by omega⟩) hR hS (hL.sub [0, 1, 2, 3] rfl) hw ⟨by omega, by omega, by omega, by omega⟩
        · replace hw := hw.2 h
          refine lv_iconst hx hb dL_law_753 (v := 0) rfl ?_
          exact absurd hw (by decide)
      by_cases g19 : (xs x3.toNatClampNeg) &&& 63 = 19
      · replace hw := hw.2.2.2.2.2.2.2.2.2.2.2.2.2.2.2.2.2.2.2.1 g19
        refine lv_tableIn hx hb dL_law_32 (tgt := 755) (by rw [g19]; decide) (by rw [g19]; decide) (by rw [g19]; rfl) (by decide) ?_
        refine th_aload_n hx hb dL_law_755 rfl (lv_at hL.1 1 rfl) ?_
        refine lv_aload_n hx hb dL_law_756 rfl (lv_at hL.1 0 rfl) ?_
        refine lv_iload_n hx hb dL_law_757 rfl (lv_at hL.1 3 rfl) ?_
        refine lv_iconst hx hb dL_law_758 (v := 1) rfl ?_
        refine lv_iadd hx hb dL_law_759 ?_
        obtain ⟨h0, hw⟩ := hw
        refine va_sld hx hb hX hbl hbA hS h0 dL_law_760 ?_
        refine lv_aload_n hx hb dL_law_761 rfl (lv_at hL.1 0 rfl) ?_
        refine lv_iload_n hx hb dL_law_762 rfl (lv_at hL.1 3 rfl) ?_
        refine lv_iconst hx hb dL_law_763 (v := 2) rfl ?_
        refine lv_iadd hx hb dL_law_764 ?_
        obtain ⟨h0, hw⟩ := hw
        refine va_sld hx hb hX hbl hbA hS h0 dL_law_765 ?_
        obtain ⟨ho, hw⟩ := hw
        refine th_ki hS (th_rV CF hK hSt hR hS ho (ci := 0) rfl (rest := []) (tk_X0_floorOf) (cw_L_94 CF hK (by decide +kernel)) hw rfl hL.1.1 rfl th_cn (Nat.le_of_ble_eq_true rfl) dL_law_766 ⟨by show _ ≤ (1200048 : Nat); omega, by show _ ≤ (5501818 : Nat); omega⟩) (fun r85 G84 H locs hw hR hS => ?_)
        refine th_aload_n hx hb dL_law_769 rfl (lv_at hL.1 2 rfl) ?_
        refine lv_aload_n hx hb dL_law_770 rfl (lv_at hL.1 0 rfl) ?_
        refine lv_iload_n hx hb dL_law_771 rfl (lv_at hL.1 3 rfl) ?_
        refine lv_iconst hx hb dL_law_772 (v := 1) rfl ?_
        refine lv_iadd hx hb dL_law_773 ?_
        obtain ⟨h0, hw⟩ := hw
        refine va_sld hx hb hX hbl hbA hS h0 dL_law_774 ?_
        refine lv_aload_n hx hb dL_law_775 rfl (lv_at hL.1 0 rfl) ?_
        refine lv_iload_n hx hb dL_law_776 rfl (lv_at hL.1 3 rfl) ?_
        refine lv_iconst hx hb dL_law_777 (v := 2) rfl ?_
        refine lv_iadd hx hb dL_law_778 ?_
        obtain ⟨h0, hw⟩ := hw
        refine va_sld hx hb hX hbl hbA hS h0 dL_law_779 ?_
        obtain ⟨ho, hw⟩ := hw
        refine th_ki hS (th_rV CF hK hSt hR hS ho (ci := 8) rfl (rest := [.int r85]) (tk_X8_floorOf) (cw_L_97 CF hK (by decide +kernel)) hw rfl hL.1.1 rfl (th_ci th_cn) (Nat.le_of_ble_eq_true rfl) dL_law_780 ⟨by show _ ≤ (1200048 : Nat); omega, by show _ ≤ (5501818 : Nat); omega⟩) (fun r87 G86 H locs hw hR hS => ?_)
        refine lv_icmp_eq hx hb dL_law_783 (tgt := 1227) (by decide) (fun h => ?_) (fun h => ?_)
        · replace hw := hw.1 h
          exact tk_L_law_b1227 E (c18 := cells + 0 + 0 + 0) (s18 := slots + 0 + 0 + 0) (fun G H locs cells slots ls y0 y1 y2 hw hR hS hL hc => ih hR hS hL hw ⟨by omega, by omega⟩) hR hS (hL.sub [0, 1, 2, 3] rfl) hw ⟨by omega, by omega, by omega, by omega⟩
        · replace hw := hw.2 h
          refine lv_iconst hx hb dL_law_786 (v := 0) rfl ?_
          exact absurd hw (by decide)
      by_cases g20 : (xs x3.toNatClampNeg) &&& 63 = 20
      · replace hw := hw.2.2.2.2.2.2.2.2.2.2.2.2.2.2.2.2.2.2.2.2.1 g20
        refine lv_tableIn hx hb dL_law_32 (tgt := 788) (by rw [g20]; decide) (by rw [g20]; decide) (by rw [g20]; rfl) (by decide) ?_
        refine th_aload_n hx hb dL_law_788 rfl (lv_at hL.1 1 rfl) ?_
        refine lv_aload_n hx hb dL_law_789 rfl (lv_at hL.1 0 rfl) ?_
        refine lv_iload_n hx hb dL_law_790 rfl (lv_at hL.1 3 rfl) ?_
        refine lv_iconst hx hb dL_law_791 (v := 1) rfl ?_
        refine lv_iadd hx hb dL_law_792 ?_
        obtain ⟨h0, hw⟩ := hw
        refine va_sld hx hb hX hbl hbA hS h0 dL_law_793 ?_
        refine lv_aload_n hx hb dL_law_794 rfl (lv_at hL.1 0 rfl) ?_
        refine lv_iload_n hx hb dL_law_795 rfl (lv_at hL.1 3 rfl) ?_
        refine lv_iconst hx hb dL_law_796 (v := 2) rfl ?_
        refine lv_iadd hx hb dL_law_797 ?_
        obtain ⟨h0, hw⟩ := hw
        refine va_sld hx hb hX hbl hbA hS h0 dL_law_798 ?_
        obtain ⟨ho, hw⟩ := hw
        refine th_ki hS (th_rV CF hK hSt hR hS ho (ci := 0) rfl (rest := []) (tk_X0_binOf) (cw_L_98 CF hK (by decide +kernel)) hw rfl hL.1.1 rfl th_cn (Nat.le_of_ble_eq_true rfl) dL_law_799 ⟨by show _ ≤ (1200048 : Nat); omega, by show _ ≤ (5501818 : Nat); omega⟩) (fun r89 G88 H locs hw hR hS => ?_)
        refine th_aload_n hx hb dL_law_802 rfl (lv_at hL.1 2 rfl) ?_
        refine lv_aload_n hx hb dL_law_803 rfl (lv_at hL.1 0 rfl) ?_
        refine lv_iload_n hx hb dL_law_804 rfl (lv_at hL.1 3 rfl) ?_
        refine lv_iconst hx hb dL_law_805 (v := 1) rfl ?_
        refine lv_iadd hx hb dL_law_806 ?_
        obtain ⟨h0, hw⟩ := hw
        refine va_sld hx hb hX hbl hbA hS h0 dL_law_807 ?_
        refine lv_aload_n hx hb dL_law_808 rfl (lv_at hL.1 0 rfl) ?_
        refine lv_iload_n hx hb dL_law_809 rfl (lv_at hL.1 3 rfl) ?_
        refine lv_iconst hx hb dL_law_810 (v := 2) rfl ?_
        refine lv_iadd hx hb dL_law_811 ?_
        obtain ⟨h0, hw⟩ := hw
        refine va_sld hx hb hX hbl hbA hS h0 dL_law_812 ?_
        obtain ⟨ho, hw⟩ := hw
        refine th_ki hS (th_rV CF hK hSt hR hS ho (ci := 8) rfl (rest := [.int r89]) (tk_X8_binOf) (cw_L_101 CF hK (by decide +kernel)) hw rfl hL.1.1 rfl (th_ci th_cn) (Nat.le_of_ble_eq_true rfl) dL_law_813 ⟨by show _ ≤ (1200048 : Nat); omega, by show _ ≤ (5501818 : Nat); omega⟩) (fun r91 G90 H locs hw hR hS => ?_)
        refine lv_icmp_eq hx hb dL_law_816 (tgt := 1227) (by decide) (fun h => ?_) (fun h => ?_)
        · replace hw := hw.1 h
          exact tk_L_law_b1227 E (c18 := cells + 0 + 0 + 0) (s18 := slots + 0 + 0 + 0) (fun G H locs cells slots ls y0 y1 y2 hw hR hS hL hc => ih hR hS hL hw ⟨by omega, by omega⟩) hR hS (hL.sub [0, 1, 2, 3] rfl) hw ⟨by omega, by omega, by omega, by omega⟩
        · replace hw := hw.2 h
          refine lv_iconst hx hb dL_law_819 (v := 0) rfl ?_
          exact absurd hw (by decide)
      by_cases g21 : (xs x3.toNatClampNeg) &&& 63 = 21
      · replace hw := hw.2.2.2.2.2.2.2.2.2.2.2.2.2.2.2.2.2.2.2.2.2.1 g21
        refine lv_tableIn hx hb dL_law_32 (tgt := 821) (by rw [g21]; decide) (by rw [g21]; decide) (by rw [g21]; rfl) (by decide) ?_
        refine th_aload_n hx hb dL_law_821 rfl (lv_at hL.1 1 rfl) ?_
        refine lv_aload_n hx hb dL_law_822 rfl (lv_at hL.1 0 rfl) ?_
        refine lv_iload_n hx hb dL_law_823 rfl (lv_at hL.1 3 rfl) ?_
        refine lv_iconst hx hb dL_law_824 (v := 1) rfl ?_
        refine lv_iadd hx hb dL_law_825 ?_
        obtain ⟨h0, hw⟩ := hw
        refine va_sld hx hb hX hbl hbA hS h0 dL_law_826 ?_
        refine lv_aload_n hx hb dL_law_827 rfl (lv_at hL.1 0 rfl) ?_
        refine lv_iload_n hx hb dL_law_828 rfl (lv_at hL.1 3 rfl) ?_
        refine lv_iconst hx hb dL_law_829 (v := 2) rfl ?_
        refine lv_iadd hx hb dL_law_830 ?_
        obtain ⟨h0, hw⟩ := hw
        refine va_sld hx hb hX hbl hbA hS h0 dL_law_831 ?_
        obtain ⟨ho, hw⟩ := hw
        refine th_ki hS (th_rV CF hK hSt hR hS ho (ci := 0) rfl (rest := []) (tk_X0_placeOf) (cw_L_102 CF hK (by decide +kernel)) hw rfl hL.1.1 rfl th_cn (Nat.le_of_ble_eq_true rfl) dL_law_832 ⟨by show _ ≤ (1200048 : Nat); omega, by show _ ≤ (5501818 : Nat); omega⟩) (fun r93 G92 H locs hw hR hS => ?_)
        refine th_aload_n hx hb dL_law_835 rfl (lv_at hL.1 2 rfl) ?_
        refine lv_aload_n hx hb dL_law_836 rfl (lv_at hL.1 0 rfl) ?_
        refine lv_iload_n hx hb dL_law_837 rfl (lv_at hL.1 3 rfl) ?_
        refine lv_iconst hx hb dL_law_838 (v := 1) rfl ?_
        refine lv_iadd hx hb dL_law_839 ?_
        obtain ⟨h0, hw⟩ := hw
        refine va_sld hx hb hX hbl hbA hS h0 dL_law_840 ?_
        refine lv_aload_n hx hb dL_law_841 rfl (lv_at hL.1 0 rfl) ?_
        refine lv_iload_n hx hb dL_law_842 rfl (lv_at hL.1 3 rfl) ?_
        refine lv_iconst hx hb dL_law_843 (v := 2) rfl ?_
        refine lv_iadd hx hb dL_law_844 ?_
        obtain ⟨h0, hw⟩ := hw
        refine va_sld hx hb hX hbl hbA hS h0 dL_law_845 ?_
        obtain ⟨ho, hw⟩ := hw
        refine th_ki hS (th_rV CF hK hSt hR hS ho (ci := 8) rfl (rest := [.int r93]) (tk_X8_placeOf) (cw_L_105 CF hK (by decide +kernel)) hw rfl hL.1.1 rfl (th_ci th_cn) (Nat.le_of_ble_eq_true rfl) dL_law_846 ⟨by show _ ≤ (1200048 : Nat); omega, by show _ ≤ (5501818 : Nat); omega⟩) (fun r95 G94 H locs hw hR hS => ?_)
        refine lv_icmp_eq hx hb dL_law_849 (tgt := 1227) (by decide) (fun h => ?_) (fun h => ?_)
        · replace hw := hw.1 h
          exact tk_L_law_b1227 E (c18 := cells + 0 + 0 + 0) (s18 := slots + 0 + 0 + 0) (fun G H locs cells slots ls y0 y1 y2 hw hR hS hL hc => ih hR hS hL hw ⟨by omega, by omega⟩) hR hS (hL.sub [0, 1, 2, 3] rfl) hw ⟨by omega, by omega, by omega, by omega⟩
        · replace hw := hw.2 h
          refine lv_iconst hx hb dL_law_852 (v := 0) rfl ?_
          exact absurd hw (by decide)
      by_cases g22 : (xs x3.toNatClampNeg) &&& 63 = 22
      · replace hw := hw.2.2.2.2.2.2.2.2.2.2.2.2.2.2.2.2.2.2.2.2.2.2.1 g22
        refine lv_tableIn hx hb dL_law_32 (tgt := 854) (by rw [g22]; decide) (by rw [g22]; decide) (by rw [g22]; rfl) (by decide) ?_
        refine th_aload_n hx hb dL_law_854 rfl (lv_at hL.1 1 rfl) ?_
        refine lv_aload_n hx hb dL_law_855 rfl (lv_at hL.1 0 rfl) ?_
        refine lv_iload_n hx hb dL_law_856 rfl (lv_at hL.1 3 rfl) ?_
        refine lv_iconst hx hb dL_law_857 (v := 1) rfl ?_
        refine lv_iadd hx hb dL_law_858 ?_
        obtain ⟨h0, hw⟩ := hw
        refine va_sld hx hb hX hbl hbA hS h0 dL_law_859 ?_
        refine lv_aload_n hx hb dL_law_860 rfl (lv_at hL.1 0 rfl) ?_
        refine lv_iload_n hx hb dL_law_861 rfl (lv_at hL.1 3 rfl) ?_
        refine lv_iconst hx hb dL_law_862 (v := 2) rfl ?_
        refine lv_iadd hx hb dL_law_863 ?_
        obtain ⟨h0, hw⟩ := hw
        refine va_sld hx hb hX hbl hbA hS h0 dL_law_864 ?_
        obtain ⟨ho, hw⟩ := hw
        refine th_ki hS (th_rV CF hK hSt hR hS ho (ci := 0) rfl (rest := []) (tk_X0_tithe) (cw_L_106 CF hK (by decide +kernel)) hw rfl hL.1.1 rfl th_cn (Nat.le_of_ble_eq_true rfl) dL_law_865 ⟨by show _ ≤ (1200048 : Nat); omega, by show _ ≤ (5501818 : Nat); omega⟩) (fun r97 G96 H locs hw hR hS => ?_)
        refine th_aload_n hx hb dL_law_868 rfl (lv_at hL.1 2 rfl) ?_
        refine lv_aload_n hx hb dL_law_869 rfl (lv_at hL.1 0 rfl) ?_
        refine lv_iload_n hx hb dL_law_870 rfl (lv_at hL.1 3 rfl) ?_
        refine lv_iconst hx hb dL_law_871 (v := 1) rfl ?_
        refine lv_iadd hx hb dL_law_872 ?_
        obtain ⟨h0, hw⟩ := hw
        refine va_sld hx hb hX hbl hbA hS h0 dL_law_873 ?_
        refine lv_aload_n hx hb dL_law_874 rfl (lv_at hL.1 0 rfl) ?_
        refine lv_iload_n hx hb dL_law_875 rfl (lv_at hL.1 3 rfl) ?_
        refine lv_iconst hx hb dL_law_876 (v := 2) rfl ?_
        refine lv_iadd hx hb dL_law_877 ?_
        obtain ⟨h0, hw⟩ := hw
        refine va_sld hx hb hX hbl hbA hS h0 dL_law_878 ?_
        obtain ⟨ho, hw⟩ := hw
        refine th_ki hS (th_rV CF hK hSt hR hS ho (ci := 8) rfl (rest := [.int r97]) (tk_X8_tithe) (cw_L_109 CF hK (by decide +kernel)) hw rfl hL.1.1 rfl (th_ci th_cn) (Nat.le_of_ble_eq_true rfl) dL_law_879 ⟨by show _ ≤ (1200048 : Nat); omega, by show _ ≤ (5501818 : Nat); omega⟩) (fun r99 G98 H locs hw hR hS => ?_)
        refine lv_icmp_eq hx hb dL_law_882 (tgt := 1227) (by decide) (fun h => ?_) (fun h => ?_)
        · replace hw := hw.1 h
          exact tk_L_law_b1227 E (c18 := cells + 0 + 0 + 0) (s18 := slots + 0 + 0 + 0) (fun G H locs cells slots ls y0 y1 y2 hw hR hS hL hc => ih hR hS hL hw ⟨by omega, by omega⟩) hR hS (hL.sub [0, 1, 2, 3] rfl) hw ⟨by omega, by omega, by omega, by omega⟩
        · replace hw := hw.2 h
          refine lv_iconst hx hb dL_law_885 (v := 0) rfl ?_
          exact absurd hw (by decide)
      by_cases g23 : (xs x3.toNatClampNeg) &&& 63 = 23
      · replace hw := hw.2.2.2.2.2.2.2.2.2.2.2.2.2.2.2.2.2.2.2.2.2.2.2.1 g23
        refine lv_tableIn hx hb dL_law_32 (tgt := 887) (by rw [g23]; decide) (by rw [g23]; decide) (by rw [g23]; rfl) (by decide) ?_
        refine th_aload_n hx hb dL_law_887 rfl (lv_at hL.1 1 rfl) ?_
        refine lv_aload_n hx hb dL_law_888 rfl (lv_at hL.1 0 rfl) ?_
        refine lv_iload_n hx hb dL_law_889 rfl (lv_at hL.1 3 rfl) ?_
        refine lv_iconst hx hb dL_law_890 (v := 1) rfl ?_
        refine lv_iadd hx hb dL_law_891 ?_
        obtain ⟨h0, hw⟩ := hw
        refine va_sld hx hb hX hbl hbA hS h0 dL_law_892 ?_
        refine lv_aload_n hx hb dL_law_893 rfl (lv_at hL.1 0 rfl) ?_
        refine lv_iload_n hx hb dL_law_894 rfl (lv_at hL.1 3 rfl) ?_
        refine lv_iconst hx hb dL_law_895 (v := 2) rfl ?_
        refine lv_iadd hx hb dL_law_896 ?_
        obtain ⟨h0, hw⟩ := hw
        refine va_sld hx hb hX hbl hbA hS h0 dL_law_897 ?_
        obtain ⟨ho, hw⟩ := hw
        refine th_ki hS (th_rV CF hK hSt hR hS ho (ci := 0) rfl (rest := []) (tk_X0_titheAgain) (cw_L_110 CF hK (by decide +kernel)) hw rfl hL.1.1 rfl th_cn (Nat.le_of_ble_eq_true rfl) dL_law_898 ⟨by show _ ≤ (1200048 : Nat); omega, by show _ ≤ (5501818 : Nat); omega⟩) (fun r101 G100 H locs hw hR hS => ?_)
        refine th_aload_n hx hb dL_law_901 rfl (lv_at hL.1 2 rfl) ?_
        refine lv_aload_n hx hb dL_law_902 rfl (lv_at hL.1 0 rfl) ?_
        refine lv_iload_n hx hb dL_law_903 rfl (lv_at hL.1 3 rfl) ?_
        refine lv_iconst hx hb dL_law_904 (v := 1) rfl ?_
        refine lv_iadd hx hb dL_law_905 ?_
        obtain ⟨h0, hw⟩ := hw
        refine va_sld hx hb hX hbl hbA hS h0 dL_law_906 ?_
        refine lv_aload_n hx hb dL_law_907 rfl (lv_at hL.1 0 rfl) ?_
        refine lv_iload_n hx hb dL_law_908 rfl (lv_at hL.1 3 rfl) ?_
        refine lv_iconst hx hb dL_law_909 (v := 2) rfl ?_
        refine lv_iadd hx hb dL_law_910 ?_
        obtain ⟨h0, hw⟩ := hw
        refine va_sld hx hb hX hbl hbA hS h0 dL_law_911 ?_
        obtain ⟨ho, hw⟩ := hw
        refine th_ki hS (th_rV CF hK hSt hR hS ho (ci := 8) rfl (rest := [.int r101]) (tk_X8_titheAgain) (cw_L_113 CF hK (by decide +kernel)) hw rfl hL.1.1 rfl (th_ci th_cn) (Nat.le_of_ble_eq_true rfl) dL_law_912 ⟨by show _ ≤ (1200048 : Nat); omega, by show _ ≤ (5501818 : Nat); omega⟩) (fun r103 G102 H locs hw hR hS => ?_)
        refine lv_icmp_eq hx hb dL_law_915 (tgt := 1227) (by decide) (fun h => ?_) (fun h => ?_)
        · replace hw := hw.1 h
          exact tk_L_law_b1227 E (c18 := cells + 0 + 0 + 0) (s18 := slots + 0 + 0 + 0) (fun G H locs cells slots ls y0 y1 y2 hw hR hS hL hc => ih hR hS hL hw ⟨by omega, by omega⟩) hR hS (hL.sub [0, 1, 2, 3] rfl) hw ⟨by omega, by omega, by omega, by omega⟩
        · replace hw := hw.2 h
          refine lv_iconst hx hb dL_law_918 (v := 0) rfl ?_
          exact absurd hw (by decide)
      by_cases g24 : (xs x3.toNatClampNeg) &&& 63 = 24
      · replace hw := hw.2.2.2.2.2.2.2.2.2.2.2.2.2.2.2.2.2.2.2.2.2.2.2.2.1 g24
        refine lv_tableIn hx hb dL_law_32 (tgt := 920) (by rw [g24]; decide) (by rw [g24]; decide) (by rw [g24]; rfl) (by decide) ?_
        refine th_aload_n hx hb dL_law_920 rfl (lv_at hL.1 1 rfl) ?_
        refine lv_aload_n hx hb dL_law_921 rfl (lv_at hL.1 0 rfl) ?_
        refine lv_iload_n hx hb dL_law_922 rfl (lv_at hL.1 3 rfl) ?_
        refine lv_iconst hx hb dL_law_923 (v := 1) rfl ?_
        refine lv_iadd hx hb dL_law_924 ?_
        obtain ⟨h0, hw⟩ := hw
        refine va_sld hx hb hX hbl hbA hS h0 dL_law_925 ?_
        obtain ⟨ho, hw⟩ := hw
        refine th_ki hS (th_rV CF hK hSt hR hS ho (ci := 0) rfl (rest := []) (tk_X0_lasts) (cw_L_114 CF hK (by decide +kernel)) hw rfl hL.1.1 rfl th_cn (Nat.le_of_ble_eq_true rfl) dL_law_926 ⟨by show _ ≤ (1200048 : Nat); omega, by show _ ≤ (5501818 : Nat); omega⟩) (fun r105 G104 H locs hw hR hS => ?_)
        refine th_aload_n hx hb dL_law_929 rfl (lv_at hL.1 2 rfl) ?_
        refine lv_aload_n hx hb dL_law_930 rfl (lv_at hL.1 0 rfl) ?_
        refine lv_iload_n hx hb dL_law_931 rfl (lv_at hL.1 3 rfl) ?_
        refine lv_iconst hx hb dL_law_932 (v := 1) rfl ?_
        refine lv_iadd hx hb dL_law_933 ?_
        obtain ⟨h0, hw⟩ := hw
        refine va_sld hx hb hX hbl hbA hS h0 dL_law_934 ?_
        obtain ⟨ho, hw⟩ := hw
        refine th_ki hS (th_rV CF hK hSt hR hS ho (ci := 8) rfl (rest := [.int r105]) (tk_X8_lasts) (cw_L_117 CF hK (by decide +kernel)) hw rfl hL.1.1 rfl (th_ci th_cn) (Nat.le_of_ble_eq_true rfl) dL_law_935 ⟨by show _ ≤ (1200048 : Nat); omega, by show _ ≤ (5501818 : Nat); omega⟩) (fun r107 G106 H locs hw hR hS => ?_)
        refine lv_icmp_eq hx hb dL_law_938 (tgt := 1227) (by decide) (fun h => ?_) (fun h => ?_)
        · replace hw := hw.1 h
          exact tk_L_law_b1227 E (c18 := cells + 0 + 0 + 0) (s18 := slots + 0 + 0 + 0) (fun G H locs cells slots ls y0 y1 y2 hw hR hS hL hc => ih hR hS hL hw ⟨by omega, by omega⟩) hR hS (hL.sub [0, 1, 2, 3] rfl) hw ⟨by omega, by omega, by omega, by omega⟩
        · replace hw := hw.2 h
          refine lv_iconst hx hb dL_law_941 (v := 0) rfl ?_
          exact absurd hw (by decide)
      by_cases g25 : (xs x3.toNatClampNeg) &&& 63 = 25
      · replace hw := hw.2.2.2.2.2.2.2.2.2.2.2.2.2.2.2.2.2.2.2.2.2.2.2.2.2.1 g25
        refine lv_tableIn hx hb dL_law_32 (tgt := 943) (by rw [g25]; decide) (by rw [g25]; decide) (by rw [g25]; rfl) (by decide) ?_
        refine th_aload_n hx hb dL_law_943 rfl (lv_at hL.1 1 rfl) ?_
        refine lv_aload_n hx hb dL_law_944 rfl (lv_at hL.1 0 rfl) ?_
        refine lv_iload_n hx hb dL_law_945 rfl (lv_at hL.1 3 rfl) ?_
        refine lv_iconst hx hb dL_law_946 (v := 1) rfl ?_
        refine lv_iadd hx hb dL_law_947 ?_
        obtain ⟨h0, hw⟩ := hw
        refine va_sld hx hb hX hbl hbA hS h0 dL_law_948 ?_
        obtain ⟨ho, hw⟩ := hw
        refine th_ki hS (th_rV CF hK hSt hR hS ho (ci := 0) rfl (rest := []) (tk_X0_bestCat) (cw_L_118 CF hK (by decide +kernel)) hw rfl hL.1.1 rfl th_cn (Nat.le_of_ble_eq_true rfl) dL_law_949 ⟨by show _ ≤ (1200048 : Nat); omega, by show _ ≤ (5501818 : Nat); omega⟩) (fun r109 G108 H locs hw hR hS => ?_)
        refine th_aload_n hx hb dL_law_952 rfl (lv_at hL.1 2 rfl) ?_
        refine lv_aload_n hx hb dL_law_953 rfl (lv_at hL.1 0 rfl) ?_
        refine lv_iload_n hx hb dL_law_954 rfl (lv_at hL.1 3 rfl) ?_
        refine lv_iconst hx hb dL_law_955 (v := 1) rfl ?_
        refine lv_iadd hx hb dL_law_956 ?_
        obtain ⟨h0, hw⟩ := hw
        refine va_sld hx hb hX hbl hbA hS h0 dL_law_957 ?_
        obtain ⟨ho, hw⟩ := hw
        refine th_ki hS (th_rV CF hK hSt hR hS ho (ci := 8) rfl (rest := [.int r109]) (tk_X8_bestCat) (cw_L_121 CF hK (by decide +kernel)) hw rfl hL.1.1 rfl (th_ci th_cn) (Nat.le_of_ble_eq_true rfl) dL_law_958 ⟨by show _ ≤ (1200048 : Nat); omega, by show _ ≤ (5501818 : Nat); omega⟩) (fun r111 G110 H locs hw hR hS => ?_)
        refine lv_icmp_eq hx hb dL_law_961 (tgt := 1227) (by decide) (fun h => ?_) (fun h => ?_)
        · replace hw := hw.1 h
          exact tk_L_law_b1227 E (c18 := cells + 0 + 0 + 0) (s18 := slots + 0 + 0 + 0) (fun G H locs cells slots ls y0 y1 y2 hw hR hS hL hc => ih hR hS hL hw ⟨by omega, by omega⟩) hR hS (hL.sub [0, 1, 2, 3] rfl) hw ⟨by omega, by omega, by omega, by omega⟩
        · replace hw := hw.2 h
          refine lv_iconst hx hb dL_law_964 (v := 0) rfl ?_
          exact absurd hw (by decide)
      by_cases g26 : (xs x3.toNatClampNeg) &&& 63 = 26
      · replace hw := hw.2.2.2.2.2.2.2.2.2.2.2.2.2.2.2.2.2.2.2.2.2.2.2.2.2.2.1 g26
        refine lv_tableIn hx hb dL_law_32 (tgt := 966) (by rw [g26]; decide) (by rw [g26]; decide) (by rw [g26]; rfl) (by decide) ?_
        refine th_aload_n hx hb dL_law_966 rfl (lv_at hL.1 1 rfl) ?_
        refine lv_aload_n hx hb dL_law_967 rfl (lv_at hL.1 0 rfl) ?_
        refine lv_iload_n hx hb dL_law_968 rfl (lv_at hL.1 3 rfl) ?_
        refine lv_iconst hx hb dL_law_969 (v := 1) rfl ?_
        refine lv_iadd hx hb dL_law_970 ?_
        obtain ⟨h0, hw⟩ := hw
        refine va_sld hx hb hX hbl hbA hS h0 dL_law_971 ?_
        obtain ⟨ho, hw⟩ := hw
        refine th_ki hS (th_rV CF hK hSt hR hS ho (ci := 0) rfl (rest := []) (tk_X0_ranked) (cw_L_122 CF hK (by decide +kernel)) hw rfl hL.1.1 rfl th_cn (Nat.le_of_ble_eq_true rfl) dL_law_972 ⟨by show _ ≤ (1200048 : Nat); omega, by show _ ≤ (5501818 : Nat); omega⟩) (fun r113 G112 H locs hw hR hS => ?_)
        refine th_aload_n hx hb dL_law_975 rfl (lv_at hL.1 2 rfl) ?_
        refine lv_aload_n hx hb dL_law_976 rfl (lv_at hL.1 0 rfl) ?_
        refine lv_iload_n hx hb dL_law_977 rfl (lv_at hL.1 3 rfl) ?_
        refine lv_iconst hx hb dL_law_978 (v := 1) rfl ?_
        refine lv_iadd hx hb dL_law_979 ?_
        obtain ⟨h0, hw⟩ := hw
        refine va_sld hx hb hX hbl hbA hS h0 dL_law_980 ?_
        obtain ⟨ho, hw⟩ := hw
        refine th_ki hS (th_rV CF hK hSt hR hS ho (ci := 8) rfl (rest := [.int r113]) (tk_X8_ranked) (cw_L_125 CF hK (by decide +kernel)) hw rfl hL.1.1 rfl (th_ci th_cn) (Nat.le_of_ble_eq_true rfl) dL_law_981 ⟨by show _ ≤ (1200048 : Nat); omega, by show _ ≤ (5501818 : Nat); omega⟩) (fun r115 G114 H locs hw hR hS => ?_)
        refine lv_icmp_eq hx hb dL_law_984 (tgt := 1227) (by decide) (fun h => ?_) (fun h => ?_)
        · replace hw := hw.1 h
          exact tk_L_law_b1227 E (c18 := cells + 0 + 0 + 0) (s18 := slots + 0 + 0 + 0) (fun G H locs cells slots ls y0 y1 y2 hw hR hS hL hc => ih hR hS hL hw ⟨by omega, by omega⟩) hR hS (hL.sub [0, 1, 2, 3] rfl) hw ⟨by omega, by omega, by omega, by omega⟩
        · replace hw := hw.2 h
          refine lv_iconst hx hb dL_law_987 (v := 0) rfl ?_
          exact absurd hw (by decide)
      by_cases g27 : (xs x3.toNatClampNeg) &&& 63 = 27
      · replace hw := hw.2.2.2.2.2.2.2.2.2.2.2.2.2.2.2.2.2.2.2.2.2.2.2.2.2.2.2.1 g27
        refine lv_tableIn hx hb dL_law_32 (tgt := 989) (by rw [g27]; decide) (by rw [g27]; decide) (by rw [g27]; rfl) (by decide) ?_
        refine th_aload_n hx hb dL_law_989 rfl (lv_at hL.1 1 rfl) ?_
        refine lv_aload_n hx hb dL_law_990 rfl (lv_at hL.1 0 rfl) ?_
        refine lv_iload_n hx hb dL_law_991 rfl (lv_at hL.1 3 rfl) ?_
        refine lv_iconst hx hb dL_law_992 (v := 1) rfl ?_
        refine lv_iadd hx hb dL_law_993 ?_
        obtain ⟨h0, hw⟩ := hw
        refine va_sld hx hb hX hbl hbA hS h0 dL_law_994 ?_
        obtain ⟨ho, hw⟩ := hw
        refine th_ki hS (th_rV CF hK hSt hR hS ho (ci := 0) rfl (rest := []) (tk_X0_grain) (cw_L_126 CF hK (by decide +kernel)) hw rfl hL.1.1 rfl th_cn (Nat.le_of_ble_eq_true rfl) dL_law_995 ⟨by show _ ≤ (1200048 : Nat); omega, by show _ ≤ (5501818 : Nat); omega⟩) (fun r117 G116 H locs hw hR hS => ?_)
        refine th_aload_n hx hb dL_law_998 rfl (lv_at hL.1 2 rfl) ?_
        refine lv_aload_n hx hb dL_law_999 rfl (lv_at hL.1 0 rfl) ?_
        refine lv_iload_n hx hb dL_law_1000 rfl (lv_at hL.1 3 rfl) ?_
        refine lv_iconst hx hb dL_law_1001 (v := 1) rfl ?_
        refine lv_iadd hx hb dL_law_1002 ?_
        obtain ⟨h0, hw⟩ := hw
        refine va_sld hx hb hX hbl hbA hS h0 dL_law_1003 ?_
        obtain ⟨ho, hw⟩ := hw
        refine th_ki hS (th_rV CF hK hSt hR hS ho (ci := 8) rfl (rest := [.int r117]) (tk_X8_grain) (cw_L_129 CF hK (by decide +kernel)) hw rfl hL.1.1 rfl (th_ci th_cn) (Nat.le_of_ble_eq_true rfl) dL_law_1004 ⟨by show _ ≤ (1200048 : Nat); omega, by show _ ≤ (5501818 : Nat); omega⟩) (fun r119 G118 H locs hw hR hS => ?_)
        refine lv_icmp_eq hx hb dL_law_1007 (tgt := 1227) (by decide) (fun h => ?_) (fun h => ?_)
        · replace hw := hw.1 h
          exact tk_L_law_b1227 E (c18 := cells + 5 + 0 + 0) (s18 := slots + 10 + 0 + 0) (fun G H locs cells slots ls y0 y1 y2 hw hR hS hL hc => ih hR hS hL hw ⟨by omega, by omega⟩) hR hS (hL.sub [0, 1, 2, 3] rfl) hw ⟨by omega, by omega, by omega, by omega⟩
        · replace hw := hw.2 h
          refine lv_iconst hx hb dL_law_1010 (v := 0) rfl ?_
          exact absurd hw (by decide)
      by_cases g28 : (xs x3.toNatClampNeg) &&& 63 = 28
      · replace hw := hw.2.2.2.2.2.2.2.2.2.2.2.2.2.2.2.2.2.2.2.2.2.2.2.2.2.2.2.2.1 g28
        refine lv_tableIn hx hb dL_law_32 (tgt := 1012) (by rw [g28]; decide) (by rw [g28]; decide) (by rw [g28]; rfl) (by decide) ?_
        refine th_aload_n hx hb dL_law_1012 rfl (lv_at hL.1 1 rfl) ?_
        obtain ⟨ho, hw⟩ := hw
        refine th_ki hS (th_rV CF hK hSt hR hS ho (ci := 0) rfl (rest := []) (tk_X0_grainAgain) (cw_L_130 CF hK (by decide +kernel)) hw rfl hL.1.1 rfl th_cn (Nat.le_of_ble_eq_true rfl) dL_law_1013 ⟨by show _ ≤ (1200048 : Nat); omega, by show _ ≤ (5501818 : Nat); omega⟩) (fun r121 G120 H locs hw hR hS => ?_)
        refine th_aload_n hx hb dL_law_1016 rfl (lv_at hL.1 2 rfl) ?_
        obtain ⟨ho, hw⟩ := hw
        refine th_ki hS (th_rV CF hK hSt hR hS ho (ci := 8) rfl (rest := [.int r121]) (tk_X8_grainAgain) (cw_L_133 CF hK (by decide +kernel)) hw rfl hL.1.1 rfl (th_ci th_cn) (Nat.le_of_ble_eq_true rfl) dL_law_1017 ⟨by show _ ≤ (1200048 : Nat); omega, by show _ ≤ (5501818 : Nat); omega⟩) (fun r123 G122 H locs hw hR hS => ?_)
        refine lv_icmp_eq hx hb dL_law_1020 (tgt := 1227) (by decide) (fun h => ?_) (fun h => ?_)
        · replace hw := hw.1 h
          exact tk_L_law_b1227 E (c18 := cells + 5 + 0 + 0) (s18 := slots + 10 + 0 + 0) (fun G H locs cells slots ls y0 y1 y2 hw hR hS hL hc => ih hR hS hL hw ⟨by omega, by omega⟩) hR hS (hL.sub [0, 1, 2, 3] rfl) hw ⟨by omega, by omega, by omega, by omega⟩
        · replace hw := hw.2 h
          refine lv_iconst hx hb dL_law_1023 (v := 0) rfl ?_
          exact absurd hw (by decide)
      by_cases g29 : (xs x3.toNatClampNeg) &&& 63 = 29
      · replace hw := hw.2.2.2.2.2.2.2.2.2.2.2.2.2.2.2.2.2.2.2.2.2.2.2.2.2.2.2.2.2.1 g29
        refine lv_tableIn hx hb dL_law_32 (tgt := 1025) (by rw [g29]; decide) (by rw [g29]; decide) (by rw [g29]; rfl) (by decide) ?_
        refine th_aload_n hx hb dL_law_1025 rfl (lv_at hL.1 1 rfl) ?_
        refine lv_aload_n hx hb dL_law_1026 rfl (lv_at hL.1 0 rfl) ?_
        refine lv_iload_n hx hb dL_law_1027 rfl (lv_at hL.1 3 rfl) ?_
        refine lv_iconst hx hb dL_law_1028 (v := 1) rfl ?_
        refine lv_iadd hx hb dL_law_1029 ?_
        obtain ⟨h0, hw⟩ := hw
        refine va_sld hx hb hX hbl hbA hS h0 dL_law_1030 ?_
        obtain ⟨ho, hw⟩ := hw
        refine th_kf hS (th_rV CF hK hSt hR hS ho (ci := 0) rfl (rest := []) (tk_X0_share) (cw_L_134 CF hK (by decide +kernel)) hw rfl hL.1.1 rfl th_cn (Nat.le_of_ble_eq_true rfl) dL_law_1031 ⟨by show _ ≤ (1200048 : Nat); omega, by show _ ≤ (5501818 : Nat); omega⟩) (fun f125 G124 H locs hw hR hS => ?_)
        obtain ⟨h0, hw⟩ := hw
        refine lv_f2d hx hb dL_law_1034 h0 ?_
        obtain ⟨d126, hd126⟩ : ∃ y : UInt64, y = FP.f2d f125 := ⟨_, rfl⟩
        replace hw := hw d126 hd126
        refine th_nmd hd126 ?_
        refine lv_dstore hx hb dL_law_1035 hL.1 (by decide) rfl (fun ls hL => ?_)
        refine th_aload_n hx hb dL_law_1037 rfl (lv_at hL 3 rfl) ?_
        refine lv_aload_n hx hb dL_law_1038 rfl (lv_at hL 1 rfl) ?_
        refine lv_iload_n hx hb dL_law_1039 rfl (lv_at hL 4 rfl) ?_
        refine lv_iconst hx hb dL_law_1040 (v := 1) rfl ?_
        refine lv_iadd hx hb dL_law_1041 ?_
        obtain ⟨h0, hw⟩ := hw
        refine va_sld hx hb hX hbl hbA hS h0 dL_law_1042 ?_
        obtain ⟨ho, hw⟩ := hw
        refine th_kf hS (th_rV CF hK hSt hR hS ho (ci := 8) rfl (rest := []) (tk_X8_share) (cw_L_138 CF hK (by decide +kernel)) hw rfl hL.1 rfl th_cn (Nat.le_of_ble_eq_true rfl) dL_law_1043 ⟨by show _ ≤ (1200048 : Nat); omega, by show _ ≤ (5501818 : Nat); omega⟩) (fun f128 G127 H locs hw hR hS => ?_)
        obtain ⟨h0, hw⟩ := hw
        refine lv_f2d hx hb dL_law_1046 h0 ?_
        obtain ⟨d129, hd129⟩ : ∃ y : UInt64, y = FP.f2d f128 := ⟨_, rfl⟩
        replace hw := hw d129 hd129
        refine th_nmd hd129 ?_
        refine lv_dstore hx hb dL_law_1047 hL (by decide) rfl (fun ls hL => ?_)
        refine lv_dload hx hb dL_law_1049 (lv_at hL 1 rfl) ?_
        refine lv_dload hx hb dL_law_1051 (lv_at hL 0 rfl) ?_
        refine lv_dcmp hx hb dL_law_1053 ?_
        refine lv_if_eq hx hb dL_law_1054 (tgt := 1075) (by decide) (fun h => ?_) (fun h => ?_)
        · replace hw := hw.1 h
          have hL := th_Lraw (lv_sub hL [2, 3, 4, 5] (l' := [(0, .ref b), (1, rv a1), (2, rv a2), (3, .int x3)]) rfl) (th_c1L ((th_cf (th_cr (th_cr (th_ci th_cn))))))
          exact tk_L_law_b1075 E (c18 := cells + 35 + 0 + 0) (s18 := slots + 70 + 0 + 0) (fun G H locs cells slots ls y0 y1 y2 hw hR hS hL hc => ih hR hS hL hw ⟨by omega, by omega⟩) hR hS (hL.sub [0, 1, 2, 3] rfl) hw ⟨by omega, by omega, by omega, by omega⟩
        · replace hw := hw.2 h
          refine lv_dload hx hb dL_law_1057 (lv_at hL 1 rfl) ?_
          refine lv_dload hx hb dL_law_1059 (lv_at hL 1 rfl) ?_
          refine lv_dcmp hx hb dL_law_1061 ?_
          refine lv_if_eq hx hb dL_law_1062 (tgt := 1073) (by decide) (fun h => ?_) (fun h => ?_)
          · replace hw := hw.1 h
            refine lv_iconst hx hb dL_law_1073 (v := 0) rfl ?_
            exact absurd hw (by decide)
          · replace hw := hw.2 h
            refine lv_dload hx hb dL_law_1065 (lv_at hL 0 rfl) ?_
            refine lv_dload hx hb dL_law_1067 (lv_at hL 0 rfl) ?_
            refine lv_dcmp hx hb dL_law_1069 ?_
            refine lv_if_ne hx hb dL_law_1070 (tgt := 1075) (by decide) (fun h => ?_) (fun h => ?_)
            · replace hw := hw.1 h
              have hL := th_Lraw (lv_sub hL [2, 3, 4, 5] (l' := [(0, .ref b), (1, rv a1), (2, rv a2), (3, .int x3)]) rfl) (th_c1L ((th_cf (th_cr (th_cr (th_ci th_cn))))))
              exact tk_L_law_b1075 E (c18 := cells + 35 + 0 + 0) (s18 := slots + 70 + 0 + 0) (fun G H locs cells slots ls y0 y1 y2 hw hR hS hL hc => ih hR hS hL hw ⟨by omega, by omega⟩) hR hS (hL.sub [0, 1, 2, 3] rfl) hw ⟨by omega, by omega, by omega, by omega⟩
            · replace hw := hw.2 h
              refine lv_iconst hx hb dL_law_1073 (v := 0) rfl ?_
              exact absurd hw (by decide)
      by_cases g30 : (xs x3.toNatClampNeg) &&& 63 = 30
      · replace hw := hw.2.2.2.2.2.2.2.2.2.2.2.2.2.2.2.2.2.2.2.2.2.2.2.2.2.2.2.2.2.2.1 g30
        refine lv_tableIn hx hb dL_law_32 (tgt := 1078) (by rw [g30]; decide) (by rw [g30]; decide) (by rw [g30]; rfl) (by decide) ?_
        refine th_aload_n hx hb dL_law_1078 rfl (lv_at hL.1 1 rfl) ?_
        obtain ⟨ho, hw⟩ := hw
        refine th_kd hS (th_rV CF hK hSt hR hS ho (ci := 0) rfl (rest := []) (tk_X0_meanRats) (cw_L_139 CF hK (by decide +kernel)) hw rfl hL.1.1 rfl th_cn (Nat.le_of_ble_eq_true rfl) dL_law_1079 ⟨by show _ ≤ (1200048 : Nat); omega, by show _ ≤ (5501818 : Nat); omega⟩) (fun d131 G130 H locs hw hR hS => ?_)
        obtain ⟨d132, hd132⟩ : ∃ y : UInt64, y = d131 := ⟨_, rfl⟩
        replace hw := hw d132 hd132
        refine th_nmd hd132 ?_
        refine lv_dstore hx hb dL_law_1082 hL.1 (by decide) rfl (fun ls hL => ?_)
        refine th_aload_n hx hb dL_law_1084 rfl (lv_at hL 3 rfl) ?_
        obtain ⟨ho, hw⟩ := hw
        refine th_kd hS (th_rV CF hK hSt hR hS ho (ci := 8) rfl (rest := []) (tk_X8_meanRats) (cw_L_143 CF hK (by decide +kernel)) hw rfl hL.1 rfl th_cn (Nat.le_of_ble_eq_true rfl) dL_law_1085 ⟨by show _ ≤ (1200048 : Nat); omega, by show _ ≤ (5501818 : Nat); omega⟩) (fun d134 G133 H locs hw hR hS => ?_)
        obtain ⟨d135, hd135⟩ : ∃ y : UInt64, y = d134 := ⟨_, rfl⟩
        replace hw := hw d135 hd135
        refine th_nmd hd135 ?_
        refine lv_dstore hx hb dL_law_1088 hL (by decide) rfl (fun ls hL => ?_)
        refine lv_dload hx hb dL_law_1090 (lv_at hL 1 rfl) ?_
        refine lv_dload hx hb dL_law_1092 (lv_at hL 0 rfl) ?_
        refine lv_dcmp hx hb dL_law_1094 ?_
        refine lv_if_eq hx hb dL_law_1095 (tgt := 1116) (by decide) (fun h => ?_) (fun h => ?_)
        · replace hw := hw.1 h
          have hL := th_Lraw (lv_sub hL [2, 3, 4, 5] (l' := [(0, .ref b), (1, rv a1), (2, rv a2), (3, .int x3)]) rfl) (th_c1L ((th_cf (th_cr (th_cr (th_ci th_cn))))))
          exact tk_L_law_b1116 E (c18 := cells + 0 + 0 + 0) (s18 := slots + 0 + 0 + 0) (fun G H locs cells slots ls y0 y1 y2 hw hR hS hL hc => ih hR hS hL hw ⟨by omega, by omega⟩) hR hS (hL.sub [0, 1, 2, 3] rfl) hw ⟨by omega, by omega, by omega, by omega⟩
        · replace hw := hw.2 h
          refine lv_dload hx hb dL_law_1098 (lv_at hL 1 rfl) ?_
          refine lv_dload hx hb dL_law_1100 (lv_at hL 1 rfl) ?_
          refine lv_dcmp hx hb dL_law_1102 ?_
          refine lv_if_eq hx hb dL_law_1103 (tgt := 1114) (by decide) (fun h => ?_) (fun h => ?_)
          · replace hw := hw.1 h
            refine lv_iconst hx hb dL_law_1114 (v := 0) rfl ?_
            exact absurd hw (by decide)
          · replace hw := hw.2 h
            refine lv_dload hx hb dL_law_1106 (lv_at hL 0 rfl) ?_
            refine lv_dload hx hb dL_law_1108 (lv_at hL 0 rfl) ?_
            refine lv_dcmp hx hb dL_law_1110 ?_
            refine lv_if_ne hx hb dL_law_1111 (tgt := 1116) (by decide) (fun h => ?_) (fun h => ?_)
            · replace hw := hw.1 h
              have hL := th_Lraw (lv_sub hL [2, 3, 4, 5] (l' := [(0, .ref b), (1, rv a1), (2, rv a2), (3, .int x3)]) rfl) (th_c1L ((th_cf (th_cr (th_cr (th_ci th_cn))))))
              exact tk_L_law_b1116 E (c18 := cells + 0 + 0 + 0) (s18 := slots + 0 + 0 + 0) (fun G H locs cells slots ls y0 y1 y2 hw hR hS hL hc => ih hR hS hL hw ⟨by omega, by omega⟩) hR hS (hL.sub [0, 1, 2, 3] rfl) hw ⟨by omega, by omega, by omega, by omega⟩
            · replace hw := hw.2 h
              refine lv_iconst hx hb dL_law_1114 (v := 0) rfl ?_
              exact absurd hw (by decide)
      by_cases g31 : (xs x3.toNatClampNeg) &&& 63 = 31
      · replace hw := hw.2.2.2.2.2.2.2.2.2.2.2.2.2.2.2.2.2.2.2.2.2.2.2.2.2.2.2.2.2.2.2.1 g31
        refine lv_tableIn hx hb dL_law_32 (tgt := 1119) (by rw [g31]; decide) (by rw [g31]; decide) (by rw [g31]; rfl) (by decide) ?_
        refine th_aload_n hx hb dL_law_1119 rfl (lv_at hL.1 1 rfl) ?_
        refine lv_aload_n hx hb dL_law_1120 rfl (lv_at hL.1 0 rfl) ?_
        refine lv_iload_n hx hb dL_law_1121 rfl (lv_at hL.1 3 rfl) ?_
        refine lv_iconst hx hb dL_law_1122 (v := 1) rfl ?_
        refine lv_iadd hx hb dL_law_1123 ?_
        obtain ⟨h0, hw⟩ := hw
        refine va_sld hx hb hX hbl hbA hS h0 dL_law_1124 ?_
        obtain ⟨ho, hw⟩ := hw
        refine th_ki hS (th_rV CF hK hSt hR hS ho (ci := 0) rfl (rest := []) (tk_X0_describe) (cw_L_144 CF hK (by decide +kernel)) hw rfl hL.1.1 rfl th_cn (Nat.le_of_ble_eq_true rfl) dL_law_1125 ⟨by show _ ≤ (1200048 : Nat); omega, by show _ ≤ (5501818 : Nat); omega⟩) (fun r137 G136 H locs hw hR hS => ?_)
        refine th_aload_n hx hb dL_law_1128 rfl (lv_at hL.1 2 rfl) ?_
        refine lv_aload_n hx hb dL_law_1129 rfl (lv_at hL.1 0 rfl) ?_
        refine lv_iload_n hx hb dL_law_1130 rfl (lv_at hL.1 3 rfl) ?_
        refine lv_iconst hx hb dL_law_1131 (v := 1) rfl ?_
        refine lv_iadd hx hb dL_law_1132 ?_
        obtain ⟨h0, hw⟩ := hw
        refine va_sld hx hb hX hbl hbA hS h0 dL_law_1133 ?_
        obtain ⟨ho, hw⟩ := hw
        refine th_ki hS (th_rV CF hK hSt hR hS ho (ci := 8) rfl (rest := [.int r137]) (tk_X8_describe) (cw_L_147 CF hK (by decide +kernel)) hw rfl hL.1.1 rfl (th_ci th_cn) (Nat.le_of_ble_eq_true rfl) dL_law_1134 ⟨by show _ ≤ (1200048 : Nat); omega, by show _ ≤ (5501818 : Nat); omega⟩) (fun r139 G138 H locs hw hR hS => ?_)
        refine lv_icmp_eq hx hb dL_law_1137 (tgt := 1227) (by decide) (fun h => ?_) (fun h => ?_)
        · replace hw := hw.1 h
          exact tk_L_law_b1227 E (c18 := cells + 1 + 0 + 0) (s18 := slots + 2 + 0 + 0) (fun G H locs cells slots ls y0 y1 y2 hw hR hS hL hc => ih hR hS hL hw ⟨by omega, by omega⟩) hR hS (hL.sub [0, 1, 2, 3] rfl) hw ⟨by omega, by omega, by omega, by omega⟩
        · replace hw := hw.2 h
          refine lv_iconst hx hb dL_law_1140 (v := 0) rfl ?_
          exact absurd hw (by decide)
      by_cases g32 : (xs x3.toNatClampNeg) &&& 63 = 32
      · replace hw := hw.2.2.2.2.2.2.2.2.2.2.2.2.2.2.2.2.2.2.2.2.2.2.2.2.2.2.2.2.2.2.2.2.1 g32
        refine lv_tableIn hx hb dL_law_32 (tgt := 1142) (by rw [g32]; decide) (by rw [g32]; decide) (by rw [g32]; rfl) (by decide) ?_
        refine th_aload_n hx hb dL_law_1142 rfl (lv_at hL.1 1 rfl) ?_
        refine lv_aload_n hx hb dL_law_1143 rfl (lv_at hL.1 0 rfl) ?_
        refine lv_iload_n hx hb dL_law_1144 rfl (lv_at hL.1 3 rfl) ?_
        refine lv_iconst hx hb dL_law_1145 (v := 1) rfl ?_
        refine lv_iadd hx hb dL_law_1146 ?_
        obtain ⟨h0, hw⟩ := hw
        refine va_sld hx hb hX hbl hbA hS h0 dL_law_1147 ?_
        obtain ⟨ho, hw⟩ := hw
        refine th_ki hS (th_rV CF hK hSt hR hS ho (ci := 0) rfl (rest := []) (tk_X0_written) (cw_L_148 CF hK (by decide +kernel)) hw rfl hL.1.1 rfl th_cn (Nat.le_of_ble_eq_true rfl) dL_law_1148 ⟨by show _ ≤ (1200048 : Nat); omega, by show _ ≤ (5501818 : Nat); omega⟩) (fun r141 G140 H locs hw hR hS => ?_)
        refine th_aload_n hx hb dL_law_1151 rfl (lv_at hL.1 2 rfl) ?_
        refine lv_aload_n hx hb dL_law_1152 rfl (lv_at hL.1 0 rfl) ?_
        refine lv_iload_n hx hb dL_law_1153 rfl (lv_at hL.1 3 rfl) ?_
        refine lv_iconst hx hb dL_law_1154 (v := 1) rfl ?_
        refine lv_iadd hx hb dL_law_1155 ?_
        obtain ⟨h0, hw⟩ := hw
        refine va_sld hx hb hX hbl hbA hS h0 dL_law_1156 ?_
        obtain ⟨ho, hw⟩ := hw
        refine th_ki hS (th_rV CF hK hSt hR hS ho (ci := 8) rfl (rest := [.int r141]) (tk_X8_written) (cw_L_151 CF hK (by decide +kernel)) hw rfl hL.1.1 rfl (th_ci th_cn) (Nat.le_of_ble_eq_true rfl) dL_law_1157 ⟨by show _ ≤ (1200048 : Nat); omega, by show _ ≤ (5501818 : Nat); omega⟩) (fun r143 G142 H locs hw hR hS => ?_)
        refine lv_icmp_eq hx hb dL_law_1160 (tgt := 1227) (by decide) (fun h => ?_) (fun h => ?_)
        · replace hw := hw.1 h
          exact tk_L_law_b1227 E (c18 := cells + 0 + 0 + 0) (s18 := slots + 0 + 0 + 0) (fun G H locs cells slots ls y0 y1 y2 hw hR hS hL hc => ih hR hS hL hw ⟨by omega, by omega⟩) hR hS (hL.sub [0, 1, 2, 3] rfl) hw ⟨by omega, by omega, by omega, by omega⟩
        · replace hw := hw.2 h
          refine lv_iconst hx hb dL_law_1163 (v := 0) rfl ?_
          exact absurd hw (by decide)
      by_cases g33 : (xs x3.toNatClampNeg) &&& 63 = 33
      · replace hw := hw.2.2.2.2.2.2.2.2.2.2.2.2.2.2.2.2.2.2.2.2.2.2.2.2.2.2.2.2.2.2.2.2.2.1 g33
        refine lv_tableIn hx hb dL_law_32 (tgt := 1165) (by rw [g33]; decide) (by rw [g33]; decide) (by rw [g33]; rfl) (by decide) ?_
        refine th_aload_n hx hb dL_law_1165 rfl (lv_at hL.1 1 rfl) ?_
        refine lv_aload_n hx hb dL_law_1166 rfl (lv_at hL.1 0 rfl) ?_
        refine lv_iload_n hx hb dL_law_1167 rfl (lv_at hL.1 3 rfl) ?_
        refine lv_iconst hx hb dL_law_1168 (v := 1) rfl ?_
        refine lv_iadd hx hb dL_law_1169 ?_
        obtain ⟨h0, hw⟩ := hw
        refine va_sld hx hb hX hbl hbA hS h0 dL_law_1170 ?_
        obtain ⟨ho, hw⟩ := hw
        refine th_ki hS (th_rV CF hK hSt hR hS ho (ci := 0) rfl (rest := []) (tk_X0_account) (cw_L_152 CF hK (by decide +kernel)) hw rfl hL.1.1 rfl th_cn (Nat.le_of_ble_eq_true rfl) dL_law_1171 ⟨by show _ ≤ (1200048 : Nat); omega, by show _ ≤ (5501818 : Nat); omega⟩) (fun r145 G144 H locs hw hR hS => ?_)
        refine th_aload_n hx hb dL_law_1174 rfl (lv_at hL.1 2 rfl) ?_
        refine lv_aload_n hx hb dL_law_1175 rfl (lv_at hL.1 0 rfl) ?_
        refine lv_iload_n hx hb dL_law_1176 rfl (lv_at hL.1 3 rfl) ?_
        refine lv_iconst hx hb dL_law_1177 (v := 1) rfl ?_
        refine lv_iadd hx hb dL_law_1178 ?_
        obtain ⟨h0, hw⟩ := hw
        refine va_sld hx hb hX hbl hbA hS h0 dL_law_1179 ?_
        obtain ⟨ho, hw⟩ := hw
        refine th_ki hS (th_rV CF hK hSt hR hS ho (ci := 8) rfl (rest := [.int r145]) (tk_X8_account) (cw_L_155 CF hK (by decide +kernel)) hw rfl hL.1.1 rfl (th_ci th_cn) (Nat.le_of_ble_eq_true rfl) dL_law_1180 ⟨by show _ ≤ (1200048 : Nat); omega, by show _ ≤ (5501818 : Nat); omega⟩) (fun r147 G146 H locs hw hR hS => ?_)
        refine lv_icmp_eq hx hb dL_law_1183 (tgt := 1227) (by decide) (fun h => ?_) (fun h => ?_)
        · replace hw := hw.1 h
          exact tk_L_law_b1227 E (c18 := cells + 35 + 0 + 0) (s18 := slots + 70 + 0 + 0) (fun G H locs cells slots ls y0 y1 y2 hw hR hS hL hc => ih hR hS hL hw ⟨by omega, by omega⟩) hR hS (hL.sub [0, 1, 2, 3] rfl) hw ⟨by omega, by omega, by omega, by omega⟩
        · replace hw := hw.2 h
          refine lv_iconst hx hb dL_law_1186 (v := 0) rfl ?_
          exact absurd hw (by decide)
      by_cases g34 : (xs x3.toNatClampNeg) &&& 63 = 34
      · replace hw := hw.2.2.2.2.2.2.2.2.2.2.2.2.2.2.2.2.2.2.2.2.2.2.2.2.2.2.2.2.2.2.2.2.2.2.1 g34
        refine lv_tableIn hx hb dL_law_32 (tgt := 1188) (by rw [g34]; decide) (by rw [g34]; decide) (by rw [g34]; rfl) (by decide) ?_
        refine th_aload_n hx hb dL_law_1188 rfl (lv_at hL.1 1 rfl) ?_
        obtain ⟨ho, hw⟩ := hw
        refine th_ki hS (th_rV CF hK hSt hR hS ho (ci := 0) rfl (rest := []) (tk_X0_undo) (cw_L_156 CF hK (by decide +kernel)) hw rfl hL.1.1 rfl th_cn (Nat.le_of_ble_eq_true rfl) dL_law_1189 ⟨by show _ ≤ (1200048 : Nat); omega, by show _ ≤ (5501818 : Nat); omega⟩) (fun r149 G148 H locs hw hR hS => ?_)
        refine th_aload_n hx hb dL_law_1192 rfl (lv_at hL.1 2 rfl) ?_
        obtain ⟨ho, hw⟩ := hw
        refine th_ki hS (th_rV CF hK hSt hR hS ho (ci := 8) rfl (rest := [.int r149]) (tk_X8_undo) (cw_L_159 CF hK (by decide +kernel)) hw rfl hL.1.1 rfl (th_ci th_cn) (Nat.le_of_ble_eq_true rfl) dL_law_1193 ⟨by show _ ≤ (1200048 : Nat); omega, by show _ ≤ (5501818 : Nat); omega⟩) (fun r151 G150 H locs hw hR hS => ?_)
        refine lv_icmp_eq hx hb dL_law_1196 (tgt := 1227) (by decide) (fun h => ?_) (fun h => ?_)
        · replace hw := hw.1 h
          exact tk_L_law_b1227 E (c18 := cells + 0 + 0 + 0) (s18 := slots + 0 + 0 + 0) (fun G H locs cells slots ls y0 y1 y2 hw hR hS hL hc => ih hR hS hL hw ⟨by omega, by omega⟩) hR hS (hL.sub [0, 1, 2, 3] rfl) hw ⟨by omega, by omega, by omega, by omega⟩
        · replace hw := hw.2 h
          refine lv_iconst hx hb dL_law_1199 (v := 0) rfl ?_
          exact absurd hw (by decide)
      by_cases g35 : (xs x3.toNatClampNeg) &&& 63 = 35
      · replace hw := hw.2.2.2.2.2.2.2.2.2.2.2.2.2.2.2.2.2.2.2.2.2.2.2.2.2.2.2.2.2.2.2.2.2.2.2.1 g35
        refine lv_tableIn hx hb dL_law_32 (tgt := 1201) (by rw [g35]; decide) (by rw [g35]; decide) (by rw [g35]; rfl) (by decide) ?_
        refine th_aload_n hx hb dL_law_1201 rfl (lv_at hL.1 1 rfl) ?_
        obtain ⟨ho, hw⟩ := hw
        refine th_ki hS (th_rV CF hK hSt hR hS ho (ci := 0) rfl (rest := []) (tk_X0_save) (cw_L_160 CF hK (by decide +kernel)) hw rfl hL.1.1 rfl th_cn (Nat.le_of_ble_eq_true rfl) dL_law_1202 ⟨by show _ ≤ (1200048 : Nat); omega, by show _ ≤ (5501818 : Nat); omega⟩) (fun r153 G152 H locs hw hR hS => ?_)
        refine th_aload_n hx hb dL_law_1205 rfl (lv_at hL.1 2 rfl) ?_
        obtain ⟨ho, hw⟩ := hw
        refine th_ki hS (th_rV CF hK hSt hR hS ho (ci := 8) rfl (rest := [.int r153]) (tk_X8_save) (cw_L_163 CF hK (by decide +kernel)) hw rfl hL.1.1 rfl (th_ci th_cn) (Nat.le_of_ble_eq_true rfl) dL_law_1206 ⟨by show _ ≤ (1200048 : Nat); omega, by show _ ≤ (5501818 : Nat); omega⟩) (fun r155 G154 H locs hw hR hS => ?_)
        refine lv_icmp_eq hx hb dL_law_1209 (tgt := 1227) (by decide) (fun h => ?_) (fun h => ?_)
        · replace hw := hw.1 h
          exact tk_L_law_b1227 E (c18 := cells + 0 + 0 + 0) (s18 := slots + 0 + 0 + 0) (fun G H locs cells slots ls y0 y1 y2 hw hR hS hL hc => ih hR hS hL hw ⟨by omega, by omega⟩) hR hS (hL.sub [0, 1, 2, 3] rfl) hw ⟨by omega, by omega, by omega, by omega⟩
        · replace hw := hw.2 h
          refine lv_iconst hx hb dL_law_1212 (v := 0) rfl ?_
          exact absurd hw (by decide)
      by_cases g36 : (xs x3.toNatClampNeg) &&& 63 = 36
      · replace hw := hw.2.2.2.2.2.2.2.2.2.2.2.2.2.2.2.2.2.2.2.2.2.2.2.2.2.2.2.2.2.2.2.2.2.2.2.2.1 g36
        refine lv_tableIn hx hb dL_law_32 (tgt := 1214) (by rw [g36]; decide) (by rw [g36]; decide) (by rw [g36]; rfl) (by decide) ?_
        refine th_aload_n hx hb dL_law_1214 rfl (lv_at hL.1 1 rfl) ?_
        obtain ⟨ho, hw⟩ := hw
        refine th_ki hS (th_rV CF hK hSt hR hS ho (ci := 0) rfl (rest := []) (tk_X0_restore) (cw_L_164 CF hK (by decide +kernel)) hw rfl hL.1.1 rfl th_cn (Nat.le_of_ble_eq_true rfl) dL_law_1215 ⟨by show _ ≤ (1200048 : Nat); omega, by show _ ≤ (5501818 : Nat); omega⟩) (fun r157 G156 H locs hw hR hS => ?_)
        refine th_aload_n hx hb dL_law_1218 rfl (lv_at hL.1 2 rfl) ?_
        obtain ⟨ho, hw⟩ := hw
        refine th_ki hS (th_rV CF hK hSt hR hS ho (ci := 8) rfl (rest := [.int r157]) (tk_X8_restore) (cw_L_167 CF hK (by decide +kernel)) hw rfl hL.1.1 rfl (th_ci th_cn) (Nat.le_of_ble_eq_true rfl) dL_law_1219 ⟨by show _ ≤ (1200048 : Nat); omega, by show _ ≤ (5501818 : Nat); omega⟩) (fun r159 G158 H locs hw hR hS => ?_)
        refine lv_icmp_eq hx hb dL_law_1222 (tgt := 1227) (by decide) (fun h => ?_) (fun h => ?_)
        · replace hw := hw.1 h
          exact tk_L_law_b1227 E (c18 := cells + 0 + 0 + 0) (s18 := slots + 0 + 0 + 0) (fun G H locs cells slots ls y0 y1 y2 hw hR hS hL hc => ih hR hS hL hw ⟨by omega, by omega⟩) hR hS (hL.sub [0, 1, 2, 3] rfl) hw ⟨by omega, by omega, by omega, by omega⟩
        · replace hw := hw.2 h
          refine lv_iconst hx hb dL_law_1225 (v := 0) rfl ?_
          exact absurd hw (by decide)
      replace hw := hw.2.2.2.2.2.2.2.2.2.2.2.2.2.2.2.2.2.2.2.2.2.2.2.2.2.2.2.2.2.2.2.2.2.2.2.2.2 g0 g1 g2 g3 g4 g5 g6 g7 g8 g9 g10 g11 g12 g13 g14 g15 g16 g17 g18 g19 g20 g21 g22 g23 g24 g25 g26 g27 g28 g29 g30 g31 g32 g33 g34 g35 g36
      have w0 := th_sw g0 (k := 0) (by decide)
      have w1 := th_sw g1 (k := 1) (by decide)
      have w2 := th_sw g2 (k := 2) (by decide)
      have w3 := th_sw g3 (k := 3) (by decide)
      have w4 := th_sw g4 (k := 4) (by decide)
      have w5 := th_sw g5 (k := 5) (by decide)
      have w6 := th_sw g6 (k := 6) (by decide)
      have w7 := th_sw g7 (k := 7) (by decide)
      have w8 := th_sw g8 (k := 8) (by decide)
      have w9 := th_sw g9 (k := 9) (by decide)
      have w10 := th_sw g10 (k := 10) (by decide)
      have w11 := th_sw g11 (k := 11) (by decide)
      have w12 := th_sw g12 (k := 12) (by decide)
      have w13 := th_sw g13 (k := 13) (by decide)
      have w14 := th_sw g14 (k := 14) (by decide)
      have w15 := th_sw g15 (k := 15) (by decide)
      have w16 := th_sw g16 (k := 16) (by decide)
      have w17 := th_sw g17 (k := 17) (by decide)
      have w18 := th_sw g18 (k := 18) (by decide)
      have w19 := th_sw g19 (k := 19) (by decide)
      have w20 := th_sw g20 (k := 20) (by decide)
      have w21 := th_sw g21 (k := 21) (by decide)
      have w22 := th_sw g22 (k := 22) (by decide)
      have w23 := th_sw g23 (k := 23) (by decide)
      have w24 := th_sw g24 (k := 24) (by decide)
      have w25 := th_sw g25 (k := 25) (by decide)
      have w26 := th_sw g26 (k := 26) (by decide)
      have w27 := th_sw g27 (k := 27) (by decide)
      have w28 := th_sw g28 (k := 28) (by decide)
      have w29 := th_sw g29 (k := 29) (by decide)
      have w30 := th_sw g30 (k := 30) (by decide)
      have w31 := th_sw g31 (k := 31) (by decide)
      have w32 := th_sw g32 (k := 32) (by decide)
      have w33 := th_sw g33 (k := 33) (by decide)
      have w34 := th_sw g34 (k := 34) (by decide)
      have w35 := th_sw g35 (k := 35) (by decide)
      have w36 := th_sw g36 (k := 36) (by decide)
      refine lv_tableOut hx hb dL_law_32 (tgt := 1227) (by omega) (by decide) ?_
      exact tk_L_law_b1227 E (c18 := cells + 0) (s18 := slots + 0) (fun G H locs cells slots ls y0 y1 y2 hw hR hS hL hc => ih hR hS hL hw ⟨by omega, by omega⟩) hR hS (hL.sub [0, 1, 2, 3] rfl) hw ⟨by omega, by omega, by omega, by omega⟩
theorem tk_L_law {p : Program} {l : Launch} {e : Env} {s : State} {m : MethodId} {b : Nat} {below : List Frame} {meth : Method} {c : Code} {D : tD} {L : Nat} {xs : Nat → Int32} {B : Nat} (E : th_EL p m c s b meth D L xs B) {G : aH} (hR : th_H D B G s.heap) (hw : tw_L_law L xs G b) : W p l e room_1 s m #[Value.ref b] below meth c s.heap [] 0 0 (lw_Z below #[Value.ref b] s) (entryFrame m ([Value.ref b] : List Value).toArray 8) := by
  have CF := E.1; have hx := CF.1; have hb := CF.2.1; have hret := E.2.1; have hlk := E.2.2.1; have hK := E.2.2.2.1; have hSt := E.2.2.2.2.1; have hX := E.2.2.2.2.2.1; have hbl := E.2.2.2.2.2.2.1; have hB := E.2.2.2.2.2.2.2.1; have hbA : ¬ th_A B b := E.2.2.2.2.2.2.2.2
  obtain ⟨ls, e1, hL⟩ := th_entry (vs := [Value.ref b]) (n := 8) (th_cf th_cn) (Nat.le_of_ble_eq_true rfl) m
  rw [e1]
  have hL : th_L ls 8 [(0, .ref b)] := hL
  have hS : va_S (th_A B) s.heap s.heap [] := va_S.rf
  unfold tw_L_law at hw
  refine fn_L_7 CF hK hR hS (by show _ ≤ (1200048 : Nat); omega) (by show _ ≤ (5501818 : Nat); omega) dL_law_0 (fun z1 G2 H hz hG hR hS => ?_)
  replace hw := hw z1 hz G2 hG
  refine lv_dup hx hb dL_law_3 (rv_cat _) ?_
  obtain ⟨h0, hw⟩ := hw
  refine th_kv hS (th_rI CF hK hSt hR hS h0 (rest := [rv z1]) (tk_X0_init) (cw_L_9 CF hK (by decide +kernel)) hw rfl hL.1.1 rfl (th_cr th_cn) (Nat.le_of_ble_eq_true rfl) dL_law_4 ⟨by show _ ≤ (1200048 : Nat); omega, by show _ ≤ (5501818 : Nat); omega⟩) (fun G3 H locs hw hR hS => ?_)
  refine th_astore_n hx hb dL_law_7 rfl hL (by decide) rfl (fun ls hL => ?_)
  refine fn_L_10 CF hK hR hS (by show _ ≤ (1200048 : Nat); omega) (by show _ ≤ (5501818 : Nat); omega) dL_law_8 (fun z4 G5 H hz hG hR hS => ?_)
  replace hw := hw z4 hz G5 hG
  refine lv_dup hx hb dL_law_11 (rv_cat _) ?_
  obtain ⟨h0, hw⟩ := hw
  refine th_kv hS (th_rI CF hK hSt hR hS h0 (rest := [rv z4]) (tk_X8_init) (cw_L_12 CF hK (by decide +kernel)) hw rfl hL.1.1 rfl (th_cr th_cn) (Nat.le_of_ble_eq_true rfl) dL_law_12 ⟨by show _ ≤ (1200048 : Nat); omega, by show _ ≤ (5501818 : Nat); omega⟩) (fun G6 H locs hw hR hS => ?_)
  refine th_astore_n hx hb dL_law_15 rfl hL (by decide) rfl (fun ls hL => ?_)
  refine lv_iconst hx hb dL_law_16 (v := 0) rfl ?_
  refine th_istore_n hx hb dL_law_17 rfl hL (by decide) rfl (fun ls hL => ?_)
  exact tk_L_law_b18 E 25 hR hS (hL.sub [3, 2, 1, 0] rfl) hw ⟨by omega, by omega⟩
