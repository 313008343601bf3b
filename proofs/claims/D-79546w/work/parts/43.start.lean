/-! THE START: tables and statics at the entry of the law -/
set_option maxRecDepth 100000
theorem st_all {args : Array Value} {s : State} (hts : ∀ w ∈ lw_tbl, w.before args s = true) : ∀ w ∈ lw_all, w.before args s = true := fun w h => hts w (List.mem_filter.mp h).1
theorem st_cls {args : Array Value} {s : State} (hts : ∀ w ∈ lw_tbl, w.before args s = true) : ∀ ci : Nat, ∃ (cC : ClassId) (iS : Nat → Nat), ∀ q : vw_C, CLS[ci]? = some q → u_Kn s q.1 q.2.1 q.2.2 cC iS := by
  intro ci
  have ha := st_all hts
  match ci with
  | 0 =>
    obtain ⟨cC, iS, h⟩ := u_known (N := 14) ha in_X0 (ha _ q143)
    exact ⟨cC, iS, fun q hq => by cases hq; exact h⟩
  | 1 =>
    obtain ⟨cC, iS, h⟩ := u_known (N := 10) ha in_X1 (ha _ q151)
    exact ⟨cC, iS, fun q hq => by cases hq; exact h⟩
  | 2 =>
    obtain ⟨cC, iS, h⟩ := u_known (N := 7) ha in_X2 (ha _ q166)
    exact ⟨cC, iS, fun q hq => by cases hq; exact h⟩
  | 3 =>
    obtain ⟨cC, iS, h⟩ := u_known (N := 3) ha in_X3 (ha _ q201)
    exact ⟨cC, iS, fun q hq => by cases hq; exact h⟩
  | 4 =>
    obtain ⟨cC, iS, h⟩ := u_known (N := 2) ha in_X4 (ha _ q208)
    exact ⟨cC, iS, fun q hq => by cases hq; exact h⟩
  | 5 =>
    obtain ⟨cC, iS, h⟩ := u_known (N := 4) ha in_X5 (ha _ q245)
    exact ⟨cC, iS, fun q hq => by cases hq; exact h⟩
  | 6 =>
    obtain ⟨cC, iS, h⟩ := u_known (N := 5) ha in_X6 (ha _ q271)
    exact ⟨cC, iS, fun q hq => by cases hq; exact h⟩
  | 7 =>
    obtain ⟨cC, iS, h⟩ := u_known (N := 3) ha in_X7 (ha _ q299)
    exact ⟨cC, iS, fun q hq => by cases hq; exact h⟩
  | 8 =>
    obtain ⟨cC, iS, h⟩ := u_known (N := 23) ha in_X8 (ha _ q1422)
    exact ⟨cC, iS, fun q hq => by cases hq; exact h⟩
  | 9 =>
    obtain ⟨cC, iS, h⟩ := u_known (N := 2) ha in_E9 (ha _ q516)
    exact ⟨cC, iS, fun q hq => by cases hq; exact h⟩
  | 10 =>
    obtain ⟨cC, iS, h⟩ := u_known (N := 3) ha in_E10 (ha _ q584)
    exact ⟨cC, iS, fun q hq => by cases hq; exact h⟩
  | 11 =>
    obtain ⟨cC, iS, h⟩ := u_known (N := 1) ha in_E11 (ha _ q935)
    exact ⟨cC, iS, fun q hq => by cases hq; exact h⟩
  | 12 =>
    obtain ⟨cC, iS, h⟩ := u_known (N := 4) ha in_J1 (ha _ q362)
    exact ⟨cC, iS, fun q hq => by cases hq; exact h⟩
  | 13 =>
    obtain ⟨cC, iS, h⟩ := u_known (N := 4) ha in_E13 (ha _ q950)
    exact ⟨cC, iS, fun q hq => by cases hq; exact h⟩
  | 14 =>
    obtain ⟨cC, iS, h⟩ := u_known (N := 4) ha in_E14 (ha _ q1011)
    exact ⟨cC, iS, fun q hq => by cases hq; exact h⟩
  | 15 =>
    obtain ⟨cC, iS, h⟩ := u_known (N := 4) ha in_E15 (ha _ q1029)
    exact ⟨cC, iS, fun q hq => by cases hq; exact h⟩
  | 16 =>
    obtain ⟨cC, iS, h⟩ := u_known (N := 4) ha in_E16 (ha _ q1050)
    exact ⟨cC, iS, fun q hq => by cases hq; exact h⟩
  | 17 =>
    obtain ⟨cC, iS, h⟩ := u_known (N := 4) ha in_E17 (ha _ q1068)
    exact ⟨cC, iS, fun q hq => by cases hq; exact h⟩
  | 18 =>
    obtain ⟨cC, iS, h⟩ := u_known (N := 4) ha in_E18 (ha _ q1082)
    exact ⟨cC, iS, fun q hq => by cases hq; exact h⟩
  | 19 =>
    obtain ⟨cC, iS, h⟩ := u_known (N := 4) ha in_E19 (ha _ q1096)
    exact ⟨cC, iS, fun q hq => by cases hq; exact h⟩
  | 20 =>
    obtain ⟨cC, iS, h⟩ := u_known (N := 2) ha in_X20 (ha _ q1194)
    exact ⟨cC, iS, fun q hq => by cases hq; exact h⟩
  | n + 21 => exact ⟨0, fun _ => 0, fun q hq => by have := cls_lt hq; omega⟩
theorem st_arr {args : Array Value} {s : State} (hts : ∀ w ∈ lw_tbl, w.before args s = true) : ∀ j : Nat, ∃ cA : ClassId, j < 11 → ArrOfT s cA (ATY j) ∧ va_RA s cA (ATY j) := by
  intro j
  have ha := st_all hts
  match j with
  | 0 =>
    obtain ⟨cA, kA, comp, h1, h2, h3⟩ := Cond.arrayClass_spec (ha _ q200)
    exact ⟨cA, fun _ => ⟨fun n z => ⟨fun k h => (by cases h), kA, h2, comp, h3⟩, h1⟩⟩
  | 1 =>
    obtain ⟨cA, kA, comp, h1, h2, h3⟩ := Cond.arrayClass_spec (ha _ q392)
    exact ⟨cA, fun _ => ⟨fun n z => ⟨fun k h => (by cases h), kA, h2, comp, h3⟩, h1⟩⟩
  | 2 =>
    obtain ⟨cA, kA, comp, h1, h2, h3⟩ := Cond.arrayClass_spec (ha _ q676)
    exact ⟨cA, fun _ => ⟨fun n z => ⟨fun k h => (by cases h), kA, h2, comp, h3⟩, h1⟩⟩
  | 3 =>
    obtain ⟨comp, cA, kA, h1, -, h2, h3, h4⟩ := Cond.arrayOver_spec (hts _ q207)
    exact ⟨cA, fun _ => ⟨fun n z => ⟨fun k h => (by cases h), kA, h2, comp, h3⟩, kA, comp, h2, h3, h1, h4⟩⟩
  | 4 =>
    obtain ⟨comp, cA, kA, h1, -, h2, h3, h4⟩ := Cond.arrayOver_spec (hts _ q157)
    exact ⟨cA, fun _ => ⟨fun n z => ⟨fun k h => (by cases h), kA, h2, comp, h3⟩, kA, comp, h2, h3, h1, h4⟩⟩
  | 5 =>
    obtain ⟨comp, cA, kA, h1, -, h2, h3, h4⟩ := Cond.arrayOver_spec (hts _ q159)
    exact ⟨cA, fun _ => ⟨fun n z => ⟨fun k h => (by cases h), kA, h2, comp, h3⟩, kA, comp, h2, h3, h1, h4⟩⟩
  | 6 =>
    obtain ⟨comp, cA, kA, h1, -, h2, h3, h4⟩ := Cond.arrayOver_spec (hts _ q161)
    exact ⟨cA, fun _ => ⟨fun n z => ⟨fun k h => (by cases h), kA, h2, comp, h3⟩, kA, comp, h2, h3, h1, h4⟩⟩
  | 7 =>
    obtain ⟨comp, cA, kA, h1, -, h2, h3, h4⟩ := Cond.arrayOver_spec (hts _ q163)
    exact ⟨cA, fun _ => ⟨fun n z => ⟨fun k h => (by cases h), kA, h2, comp, h3⟩, kA, comp, h2, h3, h1, h4⟩⟩
  | 8 =>
    obtain ⟨comp, cA, kA, h1, -, h2, h3, h4⟩ := Cond.arrayOver_spec (hts _ q165)
    exact ⟨cA, fun _ => ⟨fun n z => ⟨fun k h => (by cases h), kA, h2, comp, h3⟩, kA, comp, h2, h3, h1, h4⟩⟩
  | 9 =>
    obtain ⟨comp, cA, kA, h1, -, h2, h3, h4⟩ := Cond.arrayOver_spec (hts _ q360)
    exact ⟨cA, fun _ => ⟨fun n z => ⟨fun k h => (by cases h), kA, h2, comp, h3⟩, kA, comp, h2, h3, h1, h4⟩⟩
  | 10 =>
    obtain ⟨comp, cA, kA, h1, -, h2, h3, h4⟩ := Cond.arrayOver_spec (hts _ q394)
    exact ⟨cA, fun _ => ⟨fun n z => ⟨fun k h => (by cases h), kA, h2, comp, h3⟩, kA, comp, h2, h3, h1, h4⟩⟩
  | n + 11 => exact ⟨0, fun h => by omega⟩
theorem st_K {args : Array Value} {s : State} (hts : ∀ w ∈ lw_tbl, w.before args s = true) (hgv : (Jvm.Cond.and given_1 narrow_1).before args s = true) : ∃ D : tD, th_K D s := by
  have ha := st_all hts
  have hs := flat_of_before _ hgv
  refine ⟨((fun ci => Classical.choose (st_cls hts ci), fun ci => Classical.choose (Classical.choose_spec (st_cls hts ci))), fun j => Classical.choose (st_arr hts j)), ⟨?_, ?_⟩, ?_, ?_, ?_, ?_, ?_⟩
  · intro ci q hq
    exact Classical.choose_spec (Classical.choose_spec (st_cls hts ci)) q hq
  · intro k q hk
    have hk9 := hk
    unfold TYS at hk
    rw [List.getElem?_map] at hk
    cases hr : (List.range 11)[k]? with
    | none => rw [hr] at hk; cases hk
    | some j =>
      rw [hr] at hk
      cases hk
      have hj : j < 11 := List.mem_range.mp (List.mem_of_getElem? hr)
      exact Classical.choose_spec (st_arr hts j) hj
  · intro w hw hk
    have h9 := hts w hw
    unfold th_wk at hk
    split at hk
    · exact va_tabs rfl rfl h9
    · exact va_tabs rfl rfl h9
    · exact va_tabs rfl rfl h9
    · exact va_tabs rfl rfl h9
    · exact va_AO.of h9
    · cases hk
  · exact va_Fw.of (hts _ q1209) (hts _ q1208) (hts _ q1214) (hts _ q1212) (hts _ q1210)
  · exact va_Fw.of (hts _ q1219) (hts _ q1218) (hts _ q1223) (hts _ q1221) (hts _ q1210)
  · exact va_Nc.of (args := args) (hs _ (by decide +kernel))
  · exact va_tabs (A := args) rfl rfl (th_selpriv (by obtain ⟨cC, iS, h⟩ := st_cls hts 12; exact ⟨cC, (h _ rfl).2.1⟩) ⟨by decide +kernel, by decide +kernel⟩ (hts _ q811) (ha _ q812) (ha _ q1917))
theorem st_pDigitTens : ∀ j, j < 100 → (flatC (Jvm.Cond.and given_1 narrow_1))[117 + j]? = some (Cond.eq (.elem (.static "java/lang/Integer" "DigitTens" "[B") (.int (Int32.ofNat j))) (.int (Int32.ofNat (48 + j / 10)))) := by decide +kernel
theorem st_elDigitTens : ∀ j, j < 100 → (Cond.eq (.elem (.static "java/lang/Integer" "DigitTens" "[B") (.int (Int32.ofNat j))) (.int (Int32.ofNat (48 + j / 10)))) ∈ flatC (Jvm.Cond.and given_1 narrow_1) := fun j hj => List.mem_of_getElem? (i := 117 + j) (st_pDigitTens j hj)
theorem st_tbDigitTens {args : Array Value} {s : State} {A : Nat → Prop} (hts : ∀ w ∈ lw_tbl, w.before args s = true) (hgv : (Jvm.Cond.and given_1 narrow_1).before args s = true) (hA : ∀ a : Nat, a < s.heap.size → ¬ A a) : ∃ t : Nat, va_Z "java/lang/Integer" "DigitTens" "[B" (.ref t) A s s.heap ∧ va_T .byte t 100 (fun j => .int (Int32.ofNat (48 + j / 10))) A s s.heap := by
  have ha := st_all hts
  have hs := flat_of_before _ hgv
  obtain ⟨t, h1, h2⟩ := va_Tof (args := args) (s := s) (tm := (.static "java/lang/Integer" "DigitTens" "[B")) (ty := .byte) (N := 100) (f := fun j => .int (Int32.ofNat (48 + j / 10))) (A := A) (by decide) (hs _ (by decide +kernel)) (va_eqt (hs _ (by decide +kernel))) (fun j hj => va_eqt (hs _ (st_elDigitTens j hj))) hA
  exact ⟨t, va_Zof (hts _ q1383) (ha _ q141) h1 hA, h2⟩
theorem st_pDigitOnes : ∀ j, j < 100 → (flatC (Jvm.Cond.and given_1 narrow_1))[14 + j]? = some (Cond.eq (.elem (.static "java/lang/Integer" "DigitOnes" "[B") (.int (Int32.ofNat j))) (.int (Int32.ofNat (48 + j % 10)))) := by decide +kernel
theorem st_elDigitOnes : ∀ j, j < 100 → (Cond.eq (.elem (.static "java/lang/Integer" "DigitOnes" "[B") (.int (Int32.ofNat j))) (.int (Int32.ofNat (48 + j % 10)))) ∈ flatC (Jvm.Cond.and given_1 narrow_1) := fun j hj => List.mem_of_getElem? (i := 14 + j) (st_pDigitOnes j hj)
theorem st_tbDigitOnes {args : Array Value} {s : State} {A : Nat → Prop} (hts : ∀ w ∈ lw_tbl, w.before args s = true) (hgv : (Jvm.Cond.and given_1 narrow_1).before args s = true) (hA : ∀ a : Nat, a < s.heap.size → ¬ A a) : ∃ t : Nat, va_Z "java/lang/Integer" "DigitOnes" "[B" (.ref t) A s s.heap ∧ va_T .byte t 100 (fun j => .int (Int32.ofNat (48 + j % 10))) A s s.heap := by
  have ha := st_all hts
  have hs := flat_of_before _ hgv
  obtain ⟨t, h1, h2⟩ := va_Tof (args := args) (s := s) (tm := (.static "java/lang/Integer" "DigitOnes" "[B")) (ty := .byte) (N := 100) (f := fun j => .int (Int32.ofNat (48 + j % 10))) (A := A) (by decide) (hs _ (by decide +kernel)) (va_eqt (hs _ (by decide +kernel))) (fun j hj => va_eqt (hs _ (st_elDigitOnes j hj))) hA
  exact ⟨t, va_Zof (hts _ q1381) (ha _ q141) h1 hA, h2⟩
theorem st_St {args : Array Value} {s : State} (hts : ∀ w ∈ lw_tbl, w.before args s = true) (hgv : (Jvm.Cond.and given_1 narrow_1).before args s = true) : th_St s.heap.size s s.heap := by
  have ha := st_all hts
  have hs := flat_of_before _ hgv
  have hA : ∀ a : Nat, a < s.heap.size → ¬ th_A s.heap.size a := fun a h1 h2 => Nat.not_le.mpr h1 h2
  exact ⟨va_Zof (hts _ q371) (ha _ q115) (va_eqi (hs _ (by decide +kernel))) hA, va_Zqof (hts _ q540) (ha _ q124) (hs _ (by decide +kernel)) hA, va_Zqof (hts _ q542) (ha _ q124) (hs _ (by decide +kernel)) hA, va_Zqof (hts _ q869) (ha _ q123) (hs _ (by decide +kernel)) hA, st_tbDigitTens hts hgv hA, st_tbDigitOnes hts hgv hA⟩
/-- the empty abstract heap -/
def a_0 (z : Nat) : aH := (z, fun _ => (0, 0), fun _ _ => 0, fun _ _ => 0)
theorem st_H {D : tD} {H : Heap} (hz : 0 < H.size) : th_H D H.size (a_0 H.size) H :=
  ⟨rfl, Nat.le_refl _, hz, fun a h => absurd rfl h, fun a => ⟨fun ci q h => (by have h9 : ((0 : Nat), (0 : Nat)) = (ci + 1, 0) := h; simp at h9), fun j n h => (by have h9 : ((0 : Nat), (0 : Nat)) = (100 + j, n) := h; simp at h9; omega), fun ci h => (by have h9 : ((0 : Nat), (0 : Nat)) = (ci + 1, 0) := h; simp at h9)⟩⟩
theorem st_whole {p : Program} {e : Env} {s : State} {m : MethodId} {below : List Frame} {meth : Method} {c : Code} (l : Launch) {b L : Nat} {xs : Nat → Int32} (C0 : lw_At p s m meth c b L xs) (hw : ∀ z : Nat, tw_L_law L xs (a_0 z) b) : W p l e room_1 s m #[Value.ref b] below meth c s.heap [] 0 0 (lw_Z below #[Value.ref b] s) (entryFrame m ([Value.ref b] : List Value).toArray 8) := by
  obtain ⟨hx, hb, hret, hml, hown, hts, hX, hbl, hlk, hgv⟩ := C0
  obtain ⟨D, hK⟩ := st_K hts hgv
  exact tk_L_law (D := D) (B := s.heap.size) ⟨⟨hx, hb, hml, hown, st_all hts⟩, hret, hlk, hK, st_St hts hgv, hX, hbl, rfl, fun h => Nat.not_le.mpr hbl h⟩ (st_H (Nat.lt_of_le_of_lt (Nat.zero_le _) hbl)) (hw _)
