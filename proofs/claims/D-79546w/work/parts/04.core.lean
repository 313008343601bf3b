/-! CORE: the abstract heap, how it stands for the real one, a row an instruction over it -/
set_option maxRecDepth 100000
/-- size, shapes (kind, length), whole numbers, references (0: null) -/
abbrev aH : Type := Nat × (Nat → Nat × Nat) × (Nat → Nat → Int32) × (Nat → Nat → Nat)
def a_sz (G : aH) : Nat := G.1
def a_sh (G : aH) : Nat → Nat × Nat := G.2.1
def a_mi (G : aH) : Nat → Nat → Int32 := G.2.2.1
def a_mr (G : aH) : Nat → Nat → Nat := G.2.2.2
def a_si (G : aH) (a k : Nat) (v : Int32) : aH := (G.1, G.2.1, fun q j => if q = a ∧ j = k then v else G.2.2.1 q j, G.2.2.2)
def a_sr (G : aH) (a k : Nat) (v : Nat) : aH := (G.1, G.2.1, G.2.2.1, fun q j => if q = a ∧ j = k then v else G.2.2.2 q j)
def a_nw (G : aH) (K n : Nat) : aH := (G.1 + 1, fun q => if q = G.1 then (K, n) else G.2.1 q, fun q j => if q = G.1 then 0 else G.2.2.1 q j, fun q j => if q = G.1 then 0 else G.2.2.2 q j)
/-- a piece of an int array laid over another (or the same) one -/
def a_cp (G : aH) (a i b j n : Nat) : aH := (G.1, G.2.1, fun q k => if q = b ∧ j ≤ k ∧ k < j + n then G.2.2.1 a (i + (k - j)) else G.2.2.1 q k, G.2.2.2)
/-- .. of references -/
def a_cr (G : aH) (a i b j n : Nat) : aH := (G.1, G.2.1, G.2.2.1, fun q k => if q = b ∧ j ≤ k ∧ k < j + n then G.2.2.2 a (i + (k - j)) else G.2.2.2 q k)
theorem sz_si (G : aH) (a k : Nat) (v : Int32) : a_sz (a_si G a k v) = a_sz G := rfl
theorem sh_si (G : aH) (a k : Nat) (v : Int32) : a_sh (a_si G a k v) = a_sh G := rfl
theorem mr_si (G : aH) (a k : Nat) (v : Int32) : a_mr (a_si G a k v) = a_mr G := rfl
theorem mi_si (G : aH) (a k : Nat) (v : Int32) (q j : Nat) : a_mi (a_si G a k v) q j = if q = a ∧ j = k then v else a_mi G q j := rfl
theorem sz_sr (G : aH) (a k v : Nat) : a_sz (a_sr G a k v) = a_sz G := rfl
theorem sh_sr (G : aH) (a k v : Nat) : a_sh (a_sr G a k v) = a_sh G := rfl
theorem mi_sr (G : aH) (a k v : Nat) : a_mi (a_sr G a k v) = a_mi G := rfl
theorem mr_sr (G : aH) (a k v q j : Nat) : a_mr (a_sr G a k v) q j = if q = a ∧ j = k then v else a_mr G q j := rfl
theorem sz_nw (G : aH) (K n : Nat) : a_sz (a_nw G K n) = a_sz G + 1 := rfl
theorem sh_nw (G : aH) (K n q : Nat) : a_sh (a_nw G K n) q = if q = a_sz G then (K, n) else a_sh G q := rfl
theorem mi_nw (G : aH) (K n q j : Nat) : a_mi (a_nw G K n) q j = if q = a_sz G then 0 else a_mi G q j := rfl
theorem mr_nw (G : aH) (K n q j : Nat) : a_mr (a_nw G K n) q j = if q = a_sz G then 0 else a_mr G q j := rfl
theorem sz_cp (G : aH) (a i b j n : Nat) : a_sz (a_cp G a i b j n) = a_sz G := rfl
theorem sh_cp (G : aH) (a i b j n : Nat) : a_sh (a_cp G a i b j n) = a_sh G := rfl
theorem mr_cp (G : aH) (a i b j n : Nat) : a_mr (a_cp G a i b j n) = a_mr G := rfl
theorem mi_cp (G : aH) (a i b j n q k : Nat) : a_mi (a_cp G a i b j n) q k = if q = b ∧ j ≤ k ∧ k < j + n then a_mi G a (i + (k - j)) else a_mi G q k := rfl
theorem sz_cr (G : aH) (a i b j n : Nat) : a_sz (a_cr G a i b j n) = a_sz G := rfl
theorem sh_cr (G : aH) (a i b j n : Nat) : a_sh (a_cr G a i b j n) = a_sh G := rfl
theorem mi_cr (G : aH) (a i b j n : Nat) : a_mi (a_cr G a i b j n) = a_mi G := rfl
theorem mr_cr (G : aH) (a i b j n q k : Nat) : a_mr (a_cr G a i b j n) q k = if q = b ∧ j ≤ k ∧ k < j + n then a_mr G a (i + (k - j)) else a_mr G q k := rfl
/-- an object of the class of that number -/
def th_o (G : aH) (a ci : Nat) : Prop := a_sh G a = (ci + 1, 0)
/-- an object of one of these classes -/
def th_oo (G : aH) (a : Nat) (cs : List Nat) : Prop := ∃ ci, ci ∈ cs ∧ th_o G a ci
/-- an array of that kind, and a place in it -/
def th_a (G : aH) (a j : Nat) : Prop := (a_sh G a).1 = 100 + j
def th_ai (G : aH) (a j : Nat) (i : Int32) : Prop := (a_sh G a).1 = 100 + j ∧ ¬ i < 0 ∧ i.toNatClampNeg < (a_sh G a).2
def th_len (G : aH) (a : Nat) : Int32 := Int32.ofNat (a_sh G a).2
def rv (n : Nat) : Value := if n = 0 then .null else .ref n
def TE9 : u_T := fun k => match k with
  | 0 => ("java/lang/Throwable", "cause", "Ljava/lang/Throwable;", false)
  | _ => ("TitheBarn$Wrong", "code", "I", true)
def tyE9 : Nat → FieldType := fun k => match k with
  | 0 => .object "java/lang/Throwable"
  | _ => .int
theorem nmE9 : ∀ a, a < 2 → ∀ b, b < 2 → a ≠ b → (TE9 a).2.1 ≠ (TE9 b).2.1 := by decide +kernel
theorem tyE9_ok : ∀ k, k < 2 → parseFieldDescriptor (TE9 k).2.2.1 = some (tyE9 k) := by decide +kernel
theorem in_E9 : ∀ w ∈ u_ws RX9 TE9 2, w ∈ lw_all := lw_in (u_ws RX9 TE9 2) [524, 571] (by decide +kernel) (by decide +kernel)
def TE10 : u_T := fun k => match k with
  | 0 => ("java/lang/Throwable", "cause", "Ljava/lang/Throwable;", false)
  | 1 => ("TitheBarn$Refused", "reason", "I", true)
  | _ => ("TitheBarn$Refused", "detail", "I", true)
def tyE10 : Nat → FieldType := fun k => match k with
  | 0 => .object "java/lang/Throwable"
  | 1 => .int
  | _ => .int
theorem nmE10 : ∀ a, a < 3 → ∀ b, b < 3 → a ≠ b → (TE10 a).2.1 ≠ (TE10 b).2.1 := by decide +kernel
theorem tyE10_ok : ∀ k, k < 3 → parseFieldDescriptor (TE10 k).2.2.1 = some (tyE10 k) := by decide +kernel
theorem in_E10 : ∀ w ∈ u_ws RX10 TE10 3, w ∈ lw_all := lw_in (u_ws RX10 TE10 3) [587, 603, 605] (by decide +kernel) (by decide +kernel)
def TE11 : u_T := fun k => match k with
  | _ => ("java/lang/Throwable", "cause", "Ljava/lang/Throwable;", false)
def tyE11 : Nat → FieldType := fun k => match k with
  | _ => .object "java/lang/Throwable"
theorem nmE11 : ∀ a, a < 1 → ∀ b, b < 1 → a ≠ b → (TE11 a).2.1 ≠ (TE11 b).2.1 := by decide +kernel
theorem tyE11_ok : ∀ k, k < 1 → parseFieldDescriptor (TE11 k).2.2.1 = some (tyE11 k) := by decide +kernel
theorem in_E11 : ∀ w ∈ u_ws RX11 TE11 1, w ∈ lw_all := lw_in (u_ws RX11 TE11 1) [938] (by decide +kernel) (by decide +kernel)
def TE13 : u_T := fun k => match k with
  | 0 => ("TitheBarn$Command", "one", "I", true)
  | 1 => ("TitheBarn$Command", "other", "I", true)
  | 2 => ("TitheBarn$Command", "third", "I", true)
  | _ => ("TitheBarn$Harvest", "this$0", "LTitheBarn;", true)
def tyE13 : Nat → FieldType := fun k => match k with
  | 0 => .int
  | 1 => .int
  | 2 => .int
  | _ => .object "TitheBarn"
theorem nmE13 : ∀ a, a < 4 → ∀ b, b < 4 → a ≠ b → (TE13 a).2.1 ≠ (TE13 b).2.1 := by decide +kernel
theorem tyE13_ok : ∀ k, k < 4 → parseFieldDescriptor (TE13 k).2.2.1 = some (tyE13 k) := by decide +kernel
theorem in_E13 : ∀ w ∈ u_ws RX13 TE13 4, w ∈ lw_all := lw_in (u_ws RX13 TE13 4) [1001, 1003, 1005, 999] (by decide +kernel) (by decide +kernel)
def TE14 : u_T := fun k => match k with
  | 0 => ("TitheBarn$Command", "one", "I", true)
  | 1 => ("TitheBarn$Command", "other", "I", true)
  | 2 => ("TitheBarn$Command", "third", "I", true)
  | _ => ("TitheBarn$Cart", "this$0", "LTitheBarn;", true)
def tyE14 : Nat → FieldType := fun k => match k with
  | 0 => .int
  | 1 => .int
  | 2 => .int
  | _ => .object "TitheBarn"
theorem nmE14 : ∀ a, a < 4 → ∀ b, b < 4 → a ≠ b → (TE14 a).2.1 ≠ (TE14 b).2.1 := by decide +kernel
theorem tyE14_ok : ∀ k, k < 4 → parseFieldDescriptor (TE14 k).2.2.1 = some (tyE14 k) := by decide +kernel
theorem in_E14 : ∀ w ∈ u_ws RX14 TE14 4, w ∈ lw_all := lw_in (u_ws RX14 TE14 4) [1023, 1024, 1025, 1021] (by decide +kernel) (by decide +kernel)
def TE15 : u_T := fun k => match k with
  | 0 => ("TitheBarn$Command", "one", "I", true)
  | 1 => ("TitheBarn$Command", "other", "I", true)
  | 2 => ("TitheBarn$Command", "third", "I", true)
  | _ => ("TitheBarn$Thresh", "this$0", "LTitheBarn;", true)
def tyE15 : Nat → FieldType := fun k => match k with
  | 0 => .int
  | 1 => .int
  | 2 => .int
  | _ => .object "TitheBarn"
theorem nmE15 : ∀ a, a < 4 → ∀ b, b < 4 → a ≠ b → (TE15 a).2.1 ≠ (TE15 b).2.1 := by decide +kernel
theorem tyE15_ok : ∀ k, k < 4 → parseFieldDescriptor (TE15 k).2.2.1 = some (tyE15 k) := by decide +kernel
theorem in_E15 : ∀ w ∈ u_ws RX15 TE15 4, w ∈ lw_all := lw_in (u_ws RX15 TE15 4) [1037, 1038, 1039, 1035] (by decide +kernel) (by decide +kernel)
def TE16 : u_T := fun k => match k with
  | 0 => ("TitheBarn$Command", "one", "I", true)
  | 1 => ("TitheBarn$Command", "other", "I", true)
  | 2 => ("TitheBarn$Command", "third", "I", true)
  | _ => ("TitheBarn$Sale", "this$0", "LTitheBarn;", true)
def tyE16 : Nat → FieldType := fun k => match k with
  | 0 => .int
  | 1 => .int
  | 2 => .int
  | _ => .object "TitheBarn"
theorem nmE16 : ∀ a, a < 4 → ∀ b, b < 4 → a ≠ b → (TE16 a).2.1 ≠ (TE16 b).2.1 := by decide +kernel
theorem tyE16_ok : ∀ k, k < 4 → parseFieldDescriptor (TE16 k).2.2.1 = some (tyE16 k) := by decide +kernel
theorem in_E16 : ∀ w ∈ u_ws RX16 TE16 4, w ∈ lw_all := lw_in (u_ws RX16 TE16 4) [1058, 1059, 1060, 1056] (by decide +kernel) (by decide +kernel)
def TE17 : u_T := fun k => match k with
  | 0 => ("TitheBarn$Command", "one", "I", true)
  | 1 => ("TitheBarn$Command", "other", "I", true)
  | 2 => ("TitheBarn$Command", "third", "I", true)
  | _ => ("TitheBarn$1Pass", "this$0", "LTitheBarn;", true)
def tyE17 : Nat → FieldType := fun k => match k with
  | 0 => .int
  | 1 => .int
  | 2 => .int
  | _ => .object "TitheBarn"
theorem nmE17 : ∀ a, a < 4 → ∀ b, b < 4 → a ≠ b → (TE17 a).2.1 ≠ (TE17 b).2.1 := by decide +kernel
theorem tyE17_ok : ∀ k, k < 4 → parseFieldDescriptor (TE17 k).2.2.1 = some (tyE17 k) := by decide +kernel
theorem in_E17 : ∀ w ∈ u_ws RX17 TE17 4, w ∈ lw_all := lw_in (u_ws RX17 TE17 4) [1076, 1077, 1078, 1074] (by decide +kernel) (by decide +kernel)
def TE18 : u_T := fun k => match k with
  | 0 => ("TitheBarn$Command", "one", "I", true)
  | 1 => ("TitheBarn$Command", "other", "I", true)
  | 2 => ("TitheBarn$Command", "third", "I", true)
  | _ => ("TitheBarn$1Cat", "this$0", "LTitheBarn;", true)
def tyE18 : Nat → FieldType := fun k => match k with
  | 0 => .int
  | 1 => .int
  | 2 => .int
  | _ => .object "TitheBarn"
theorem nmE18 : ∀ a, a < 4 → ∀ b, b < 4 → a ≠ b → (TE18 a).2.1 ≠ (TE18 b).2.1 := by decide +kernel
theorem tyE18_ok : ∀ k, k < 4 → parseFieldDescriptor (TE18 k).2.2.1 = some (tyE18 k) := by decide +kernel
theorem in_E18 : ∀ w ∈ u_ws RX18 TE18 4, w ∈ lw_all := lw_in (u_ws RX18 TE18 4) [1090, 1091, 1092, 1088] (by decide +kernel) (by decide +kernel)
def TE19 : u_T := fun k => match k with
  | 0 => ("TitheBarn$Command", "one", "I", true)
  | 1 => ("TitheBarn$Command", "other", "I", true)
  | 2 => ("TitheBarn$Command", "third", "I", true)
  | _ => ("TitheBarn$1Gap", "this$0", "LTitheBarn;", true)
def tyE19 : Nat → FieldType := fun k => match k with
  | 0 => .int
  | 1 => .int
  | 2 => .int
  | _ => .object "TitheBarn"
theorem nmE19 : ∀ a, a < 4 → ∀ b, b < 4 → a ≠ b → (TE19 a).2.1 ≠ (TE19 b).2.1 := by decide +kernel
theorem tyE19_ok : ∀ k, k < 4 → parseFieldDescriptor (TE19 k).2.2.1 = some (tyE19 k) := by decide +kernel
theorem in_E19 : ∀ w ∈ u_ws RX19 TE19 4, w ∈ lw_all := lw_in (u_ws RX19 TE19 4) [1104, 1105, 1106, 1102] (by decide +kernel) (by decide +kernel)
/-- the classes of objects, by their numbers -/
def CLS : List vw_C := [(RX0, TX0, 14), (RX1, TX1, 10), (RX2, TX2, 7), (RX3, TX3, 3), (RX4, TX4, 2), (RX5, TX5, 4), (RX6, TX6, 5), (RX7, TX7, 3), (RX8, TX8, 23), (RX9, TE9, 2), (RX10, TE10, 3), (RX11, TE11, 1), (RJ1, TJ1, 4), (RX13, TE13, 4), (RX14, TE14, 4), (RX15, TE15, 4), (RX16, TE16, 4), (RX17, TE17, 4), (RX18, TE18, 4), (RX19, TE19, 4), (RX20, TX20, 2)]
def SZL : List Nat := [14, 10, 7, 3, 2, 4, 5, 3, 23, 7, 8, 6, 4, 5, 5, 5, 5, 5, 5, 5, 2]
def tyOf : Nat → Nat → FieldType := fun ci => match ci with
  | 0 => tyX0
  | 1 => tyX1
  | 2 => tyX2
  | 3 => tyX3
  | 4 => tyX4
  | 5 => tyX5
  | 6 => tyX6
  | 7 => tyX7
  | 8 => tyX8
  | 9 => tyE9
  | 10 => tyE10
  | 11 => tyE11
  | 12 => tyJ1
  | 13 => tyE13
  | 14 => tyE14
  | 15 => tyE15
  | 16 => tyE16
  | 17 => tyE17
  | 18 => tyE18
  | 19 => tyE19
  | 20 => tyX20
  | _ => fun _ => .int
def ATY : Nat → FieldType := fun j => match j with
  | 0 => .int
  | 1 => .byte
  | 2 => .boolean
  | 3 => .object "TitheBarn$Lot"
  | 4 => .object "TitheBarn$Parish"
  | 5 => .object "TitheBarn$Bay"
  | 6 => .object "TitheBarn$Floor"
  | 7 => .object "TitheBarn$Bin"
  | 8 => .object "TitheBarn$Place"
  | 9 => .object "TitheBarn$State"
  | _ => .object "TitheBarn$Command"
def th_rf : FieldType → Bool := fun t => match t with
  | .object _ => true
  | .array _ => true
  | _ => false
/-- what the field k of an object of class ci at a holds -/
def cv (ci : Nat) (G : aH) (a k : Nat) : Value := match th_rf (tyOf ci k) with
  | true => rv (a_mr G a k)
  | false => .int (a_mi G a k)
def av (j : Nat) (G : aH) (a : Nat) : Nat → Value := match th_rf (ATY j) with
  | true => fun i => rv (a_mr G a i)
  | false => fun i => .int (a_mi G a i)
abbrev tD : Type := va_G × (Nat → ClassId)
def TYS (D : tD) : List (ClassId × FieldType) := (List.range 11).map fun j => (D.2 j, ATY j)
theorem TYS_at (D : tD) {j : Nat} (h : j < 11) : (TYS D)[j]? = some (D.2 j, ATY j) := by
  simp [TYS, h]
theorem rv_pos {a : Nat} (h : a ≠ 0) : rv a = .ref a := by simp [rv, h]
theorem rv_zero : rv 0 = .null := rfl
theorem rv_cat (a : Nat) : (rv a).category = 1 := by unfold rv; split <;> rfl
theorem rv_rf (a : Nat) : rv a = va_rf (if a = 0 then none else some a) := by unfold rv va_rf; split <;> simp_all
/-- its size, and no lock on it -/
def th_ok (n : Nat) (a : Nat) (H : Heap) : Prop := ∃ cell : Cell, H[a]? = some cell ∧ n ≤ cell.slots.size ∧ cell.monitor.owner = none ∧ cell.monitor.count = 0
theorem th_ok.kept {n a : Nat} {H H1 : Heap} (h : th_ok n a H) (hH : H1[a]? = H[a]?) : th_ok n a H1 := by
  obtain ⟨c, h1, h2⟩ := h
  exact ⟨c, by rw [hH]; exact h1, h2⟩
theorem th_ok.set {n a sl : Nat} {H H1 : Heap} {cell : Cell} {v : Value} (h : th_ok n a H) (h0 : H[a]? = some cell) (h1 : H1[a]? = some (cell.setSlot sl v)) : th_ok n a H1 := by
  obtain ⟨c, g1, g2, g3, g4⟩ := h
  cases g1.symm.trans h0
  exact ⟨_, h1, by simp [Cell.setSlot]; exact g2, g3, g4⟩
def SZ : Nat → Nat := fun ci => SZL.getD ci 0
/-- one cell as the abstract heap has it -/
def th_cell (D : tD) (G : aH) (a : Nat) (H : Heap) : Prop :=
  (∀ (ci : Nat) (q : vw_C), a_sh G a = (ci + 1, 0) → CLS[ci]? = some q → t_OB a (D.1.1 ci) q.2.2 (D.1.2 ci) H (cv ci G a)) ∧
  (∀ (j n : Nat), a_sh G a = (100 + j, n) → j < 11 → H[a]? = some (arrV (D.2 j) n (av j G a))) ∧
  (∀ (ci : Nat), a_sh G a = (ci + 1, 0) → ci < 21 → th_ok (SZ ci) a H)
def th_H (D : tD) (B : Nat) (G : aH) (H : Heap) : Prop :=
  H.size = a_sz G ∧ B ≤ a_sz G ∧ 0 < B ∧ (∀ a, (a_sh G a).1 ≠ 0 → B ≤ a ∧ a < a_sz G) ∧ ∀ a, th_cell D G a H
def th_A (B : Nat) : Nat → Prop := fun q => B ≤ q
theorem cls_lt {ci : Nat} {q : vw_C} (h : CLS[ci]? = some q) : ci < 21 := (List.getElem?_eq_some_iff.mp h).1
theorem th_cell.kept {D : tD} {G G1 : aH} {a : Nat} {H H1 : Heap} (h : th_cell D G a H) (hs : a_sh G1 a = a_sh G a) (hi : ∀ k, a_mi G1 a k = a_mi G a k) (hr : ∀ k, a_mr G1 a k = a_mr G a k) (hH : H1[a]? = H[a]?) : th_cell D G1 a H1 := by
  refine ⟨fun ci q h1 h2 => ?_, fun j n h1 h2 => ?_, fun ci h1 h2 => (h.2.2 ci (by rw [← hs]; exact h1) h2).kept hH⟩
  · rw [hs] at h1
    refine ((h.1 ci q h1 h2).kept hH).to (fun k _ => ?_)
    unfold cv
    rw [hi, hr]
  · rw [hs] at h1
    rw [hH, h.2.1 j n h1 h2]
    have e : av j G a = av j G1 a := by
      unfold av
      split
      · funext i; rw [hr]
      · funext i; rw [hi]
    rw [e]
theorem th_H.upd {D : tD} {B : Nat} {G G1 : aH} {H H1 : Heap} (h : th_H D B G H) (a : Nat) (hz : a_sz G1 = a_sz G) (hs : a_sh G1 = a_sh G) (hi : ∀ q, q ≠ a → ∀ k, a_mi G1 q k = a_mi G q k) (hr : ∀ q, q ≠ a → ∀ k, a_mr G1 q k = a_mr G q k) (hsz : H1.size = H.size) (hH : ∀ q : Nat, q ≠ a → H1[q]? = H[q]?) (hc : th_cell D G1 a H1) : th_H D B G1 H1 := by
  obtain ⟨h1, h2, h3, h4, h5⟩ := h
  refine ⟨by rw [hsz, hz]; exact h1, by rw [hz]; exact h2, h3, fun q hq => by rw [hs] at hq; rw [hz]; exact h4 q hq, fun q => ?_⟩
  by_cases e : q = a
  · rw [e]; exact hc
  · exact (h5 q).kept (by rw [hs]) (hi q e) (hr q e) (hH q e)
theorem th_H.new {D : tD} {B : Nat} {G : aH} {H H1 : Heap} (h : th_H D B G H) (K n : Nat) (hsz : H1.size = H.size + 1) (hH : ∀ q : Nat, q < H.size → H1[q]? = H[q]?) (hc : th_cell D (a_nw G K n) (a_sz G) H1) : th_H D B (a_nw G K n) H1 := by
  obtain ⟨h1, h2, h3, h4, h5⟩ := h
  refine ⟨by rw [hsz, h1, sz_nw], by rw [sz_nw]; omega, h3, fun q hq => ?_, fun q => ?_⟩
  · rw [sz_nw]
    by_cases e : q = a_sz G
    · omega
    · rw [sh_nw, if_neg e] at hq
      have := h4 q hq
      omega
  · by_cases e : q = a_sz G
    · rw [e]; exact hc
    · by_cases z : (a_sh G q).1 = 0
      · refine ⟨fun ci c g1 g2 => ?_, fun j m g1 g2 => ?_, fun ci g1 g2 => ?_⟩
        · rw [sh_nw, if_neg e] at g1
          rw [g1] at z
          simp at z
        · rw [sh_nw, if_neg e] at g1
          rw [g1] at z
          simp at z
        · rw [sh_nw, if_neg e] at g1
          rw [g1] at z
          simp at z
      · have := h4 q z
        refine (h5 q).kept (by rw [sh_nw, if_neg e]) (fun k => by rw [mi_nw, if_neg e]) (fun k => by rw [mr_nw, if_neg e]) (hH q (by omega))
theorem th_H.pos {D : tD} {B : Nat} {G : aH} {H : Heap} (h : th_H D B G H) {a : Nat} (ha : (a_sh G a).1 ≠ 0) : a ≠ 0 := by
  have := h.2.2.2.1 a ha
  have := h.2.2.1
  omega
theorem th_o.nz {G : aH} {a ci : Nat} (h : th_o G a ci) : (a_sh G a).1 ≠ 0 := by
  unfold th_o at h
  rw [h]
  simp
theorem th_a.nz {G : aH} {a j : Nat} (h : th_a G a j) : (a_sh G a).1 ≠ 0 := by
  unfold th_a at h
  omega
theorem th_H.inA {D : tD} {B : Nat} {G : aH} {H : Heap} (h : th_H D B G H) {a : Nat} (ha : (a_sh G a).1 ≠ 0) : th_A B a := (h.2.2.2.1 a ha).1
/-! what the tables say, all through a run -/
def th_wk : Cond → Bool := fun w => match w with
  | .castable _ _ => true
  | .methodLinkNest _ _ _ _ => true
  | .fieldLinkNest _ _ _ _ _ _ => true
  | .declares _ => true
  | .arrayOver (.object _) => true
  | _ => false
abbrev nIt : MethodName := ⟨"java/util/Iterator", "hasNext", "()Z"⟩
abbrev nNx : MethodName := ⟨"java/util/Iterator", "next", "()Ljava/lang/Object;"⟩
abbrev nNxO : MethodName := ⟨"TitheBarn$Bay$Climb", "next", "()Ljava/lang/Object;"⟩
def th_K (D : tD) (U : State) : Prop := va_K D.1 CLS (TYS D) U ∧ (∀ w ∈ lw_tbl, th_wk w = true → va_Nw w U) ∧ va_Fw RX20 nIt yX20_hasNext U ∧ va_Fw RX20 nNx nNxO U ∧ va_Nc RX10 RX9 U ∧ va_Nw (.selects RJ1 yJ0_ensureCapacityInternal yJ0_ensureCapacityInternal) U
theorem th_wk_same {w : Cond} (h : th_wk w = true) {u U : State} (hv : u.vm = U.vm) (hz : va_Nw w u) : va_Nw w U := by
  have ha : u.vm.Alike U.vm := by rw [hv]; exact Vm.Alike.refl U.vm
  unfold th_wk at h
  split at h
  · exact va_Nw.same rfl hv hz
  · exact va_Nw.same rfl hv hz
  · exact va_Nw.same rfl hv hz
  · exact va_Nw.same rfl hv hz
  · exact va_AO.moved ha hz
  · cases h
theorem th_wk_warm {w : Cond} (h : th_wk w = true) {s U : State} (hW : s.WarmedH U.vm) (hz : va_Nw w s) : va_Nw w U := by
  unfold th_wk at h
  split at h
  · exact hz.warmC hW
  · exact hz.warmM hW
  · exact hz.warmF hW
  · exact hz.warmD hW
  · exact va_AO.moved hW.alike hz
  · cases h
theorem va_Nc.mv {C T : String} {u U : State} (hvm : u.vm.Alike U.vm) (h : va_Nc C T u) : va_Nc C T U := by
  obtain ⟨c, t, h1, h2, h3⟩ := h
  exact ⟨c, t, by rw [hvm.findClass]; exact h1, by rw [hvm.findClass]; exact h2, by rw [hvm.assignable]; exact h3⟩
theorem th_wsel {C : String} {x y : MethodName} {s U : State} (hW : s.WarmedH U.vm) (h : va_Nw (.selects C x y) s) : va_Nw (.selects C x y) U :=
  pay_in (big := [.selects C x y]) (ws := [.selects C x y]) (args := #[]) (s := s) (fun w hw => by rw [List.mem_singleton.mp hw]; exact h) (fun w hw => ⟨hw, Or.inl (by rw [List.mem_singleton.mp hw]; rfl)⟩) _ (List.mem_singleton.mpr rfl) #[] U hW
theorem th_K.warm {D : tD} {s U : State} (hW : s.WarmedH U.vm) (h : th_K D s) : th_K D U :=
  ⟨va_K.moved hW.alike h.1, fun w hw hk => th_wk_warm hk hW (h.2.1 w hw hk), h.2.2.1.moved (by decide +kernel) hW.alike, h.2.2.2.1.moved (by decide +kernel) hW.alike, h.2.2.2.2.1.mv hW.alike, th_wsel hW h.2.2.2.2.2⟩
theorem th_K.same {D : tD} {u U : State} (hv : u.vm = U.vm) (h : th_K D u) : th_K D U := by
  have ha : u.vm.Alike U.vm := by rw [hv]; exact Vm.Alike.refl U.vm
  exact ⟨va_K.moved ha h.1, fun w hw hk => th_wk_same hk hv (h.2.1 w hw hk), h.2.2.1.moved (by decide +kernel) ha, h.2.2.2.1.moved (by decide +kernel) ha, h.2.2.2.2.1.mv ha, va_Nw.same rfl hv h.2.2.2.2.2⟩
/-- the statics that are read -/
def th_St (B : Nat) (U : State) (H : Heap) : Prop :=
  va_Z "java/lang/String" "COMPACT_STRINGS" "Z" (.int 1) (th_A B) U H ∧
  va_Zq "java/lang/Throwable" "UNASSIGNED_STACK" "[Ljava/lang/StackTraceElement;" (th_A B) U H ∧
  va_Zq "java/lang/Throwable" "SUPPRESSED_SENTINEL" "Ljava/util/List;" (th_A B) U H ∧
  va_Zq "jdk/internal/util/Preconditions" "SIOOBE_FORMATTER" "Ljava/util/function/BiFunction;" (th_A B) U H ∧
  (∃ t : Nat, va_Z "java/lang/Integer" "DigitTens" "[B" (.ref t) (th_A B) U H ∧ va_T .byte t 100 (fun j => .int (Int32.ofNat (48 + j / 10))) (th_A B) U H) ∧
  (∃ t : Nat, va_Z "java/lang/Integer" "DigitOnes" "[B" (.ref t) (th_A B) U H ∧ va_T .byte t 100 (fun j => .int (Int32.ofNat (48 + j % 10))) (th_A B) U H)
theorem th_St.moved {B : Nat} {u U : State} {H : Heap} (hvm : u.vm.Alike U.vm) (h : th_St B u H) : th_St B U H := by
  obtain ⟨h1, h2, h3, h6, ⟨t4, h4, g4⟩, ⟨t5, h5, g5⟩⟩ := h
  exact ⟨va_Z.moved hvm h1, va_Zq.moved hvm h2, va_Zq.moved hvm h3, va_Zq.moved hvm h6, ⟨t4, va_Z.moved hvm h4, va_T.moved hvm g4⟩, ⟨t5, va_Z.moved hvm h5, va_T.moved hvm g5⟩⟩
theorem th_St.kept {B : Nat} {U : State} {H H1 : Heap} (h : th_St B U H) (hq : ∀ a : Nat, a < H.size → ¬ th_A B a → H1[a]? = H[a]?) : th_St B U H1 := by
  obtain ⟨h1, h2, h3, h6, ⟨t4, h4, g4⟩, ⟨t5, h5, g5⟩⟩ := h
  exact ⟨va_Z.kept h1 hq, va_Zq.kept h2 hq, va_Zq.kept h3 hq, va_Zq.kept h6 hq, ⟨t4, va_Z.kept h4 hq, va_T.kept g4 hq⟩, ⟨t5, va_Z.kept h5 hq, va_T.kept g5 hq⟩⟩
/-! contracts: their starts and ends -/
def th_P (D : tD) (B : Nat) (as : List Value) (w : aH → Prop) : Array Value → State → Prop := va_Pc as (fun U => ∃ G, th_H D B G U.heap ∧ th_K D U ∧ th_St B U U.heap ∧ w G)
def th_Qi (D : tD) (B : Nat) (K : Int32 → aH → Prop) : Array Value → State → Outcome → State → Prop := va_Qi K (fun G t => th_H D B G t.heap) (th_A B)
def th_Qf (D : tD) (B : Nat) (K : UInt32 → aH → Prop) : Array Value → State → Outcome → State → Prop := va_Qf K (fun G t => th_H D B G t.heap) (th_A B)
def th_Qd (D : tD) (B : Nat) (K : UInt64 → aH → Prop) : Array Value → State → Outcome → State → Prop := va_Qd K (fun G t => th_H D B G t.heap) (th_A B)
def th_Qv (D : tD) (B : Nat) (K : aH → Prop) : Array Value → State → Outcome → State → Prop := va_Qv K (fun G t => th_H D B G t.heap) (th_A B)
def th_Qr (D : tD) (B : Nat) (K : Nat → aH → Prop) : Array Value → State → Outcome → State → Prop := fun _ st oc t => (∃ (r : Nat) (G : aH), oc = .returned (some (rv r)) ∧ K r G ∧ th_H D B G t.heap) ∧ va_F (th_A B) st t
def th_X (D : tD) (B : Nat) (X : Nat → aH → Prop) : Addr → String → State → State → Prop := fun q _ st t => (∃ G, X q G ∧ th_H D B G t.heap ∧ th_oo G q [9, 10, 11]) ∧ va_F (th_A B) st t
theorem th_P.blind {D : tD} {B : Nat} {as : List Value} {w : aH → Prop} : FrameBlind (th_P D B as w) := by
  intro a U g mk h
  obtain ⟨h1, G, h2, h3, h4, h5⟩ := h
  exact ⟨h1, G, h2, h3.same (u := U) (U := U.calling g mk a) rfl, h4.moved (u := U) (U := U.calling g mk a) (Vm.Alike.refl U.vm), h5⟩
theorem th_P.at {D : tD} {B : Nat} {as : List Value} {w : aH → Prop} {s : State} {H : Heap} {locs : List Loc} {G : aH} (hK : th_K D s) (hSt : th_St B s s.heap) (hR : th_H D B G H) (hS : va_S (th_A B) s.heap H locs) (hw : w G) {U : State} (hU : U.heap = H) (hW : s.WarmedH U.vm) : th_P D B as w as.toArray U :=
  ⟨rfl, G, by rw [hU]; exact hR, hK.warm hW, by rw [hU]; exact (hSt.moved hW.alike).kept (fun a h1 h2 => hS.2.1 a h1 h2), hw⟩
theorem th_recv {D : tD} {B : Nat} {G : aH} {s : State} {H : Heap} {a ci : Nat} {q : vw_C} (hK : th_K D s) (hR : th_H D B G H) (ho : th_o G a ci) (hq : CLS[ci]? = some q) : ∃ cell : Cell, H[a]? = some cell ∧ cell.vm.isStatics = false ∧ s.vm.findClass q.1 = some cell.cls := by
  obtain ⟨cell, g1, g2, g3, -⟩ := (hR.2.2.2.2 a).1 ci q ho hq
  exact ⟨cell, g1, by rw [g3]; rfl, by rw [g2]; exact (hK.1.1 ci q hq).2.1⟩
theorem th_ce {D : tD} {B : Nat} {G : aH} {s : State} {H : Heap} {a ci : Nat} {q : vw_C} (hK : th_K D s) (hR : th_H D B G H) (ho : th_o G a ci) (hq : CLS[ci]? = some q) : ∃ cell : Cell, H[a]? = some cell ∧ cell.vm = .none ∧ s.vm.findClass q.1 = some cell.cls := by
  obtain ⟨cell, g1, g2, g3, -⟩ := (hR.2.2.2.2 a).1 ci q ho hq
  exact ⟨cell, g1, g3, by rw [g2]; exact (hK.1.1 ci q hq).2.1⟩
/-! locals: every one of one slot -/
def th_L (ls : Array Slot) (nL : Nat) (l : List (Nat × Value)) : Prop := lv_has ls nL l ∧ ∀ q ∈ l, q.2.category = 1
def th_en : Nat → List Value → List (Nat × Value)
  | _, [] => []
  | i, v :: vs => (i, v) :: th_en (i + 1) vs
def th_c1 : List Value → Prop := fun l => ∀ v ∈ l, v.category = 1
theorem th_cn : th_c1 [] := fun _ h => nomatch h
theorem th_ci {x : Int32} {l : List Value} (h : th_c1 l) : th_c1 (.int x :: l) := fun v hv => by
  rcases List.mem_cons.mp hv with rfl | hv
  · rfl
  · exact h v hv
theorem th_cr {x : Nat} {l : List Value} (h : th_c1 l) : th_c1 (rv x :: l) := fun v hv => by
  rcases List.mem_cons.mp hv with rfl | hv
  · exact rv_cat x
  · exact h v hv
theorem th_c1.sum : ∀ {l : List Value}, th_c1 l → (l.map fun v => v.category).sum = l.length
  | [], _ => rfl
  | v :: l, h => by
    have h1 : v.category = 1 := h v List.mem_cons_self
    have h2 := th_c1.sum (l := l) (fun w hw => h w (List.mem_cons_of_mem _ hw))
    simp only [List.map_cons, List.sum_cons, h1, h2, List.length_cons]
    omega
theorem th_args {vs : List Value} (h : th_c1 vs) : ∀ i, lv_args i vs = th_en i vs := by
  induction vs with
  | nil => intro i; rfl
  | cons v vs ih =>
    intro i
    have h1 : v.category = 1 := h v List.mem_cons_self
    simp only [lv_args, th_en, h1]
    rw [if_neg (by decide), ih (fun w hw => h w (List.mem_cons_of_mem _ hw))]
theorem th_sl {vs : List Value} (h : th_c1 vs) : (lg_sl vs).length = vs.length := by
  induction vs with
  | nil => rfl
  | cons v vs ih =>
    have h1 : v.category = 1 := h v List.mem_cons_self
    have h2 := ih (fun w hw => h w (List.mem_cons_of_mem _ hw))
    unfold lg_sl at h2 ⊢
    simp only [List.flatMap_cons, h1, List.length_append, h2, List.length_cons]
    rw [if_neg (by decide)]
    simp
    omega
theorem th_en_c {vs : List Value} (h : th_c1 vs) : ∀ i, ∀ q ∈ th_en i vs, q.2.category = 1 := by
  induction vs with
  | nil => intro i q hq; cases hq
  | cons v vs ih =>
    intro i q hq
    rcases List.mem_cons.mp hq with rfl | hq
    · exact h v List.mem_cons_self
    · exact ih (fun w hw => h w (List.mem_cons_of_mem _ hw)) (i + 1) q hq
theorem th_entry {vs : List Value} {n : Nat} (h : th_c1 vs) (hn : vs.length ≤ n) (m : MethodId) : ∃ ls, entryFrame m vs.toArray n = F0 m 0 ls [] ∧ th_L ls n (th_en 0 vs) := by
  refine ⟨_, lg_entry_eq m vs n, ?_, th_en_c h 0⟩
  rw [← th_args h 0]
  exact lv_entry vs (by rw [th_sl h]; exact hn)
theorem th_L.sub {ls : Array Slot} {nL : Nat} {l l' : List (Nat × Value)} (h : th_L ls nL l) (ks : List Nat) (hl : lv_pick l ks = l') : th_L ls nL l' := by
  refine ⟨lv_sub h.1 ks hl, fun q hq => ?_⟩
  rw [← hl] at hq
  obtain ⟨k, -, hk⟩ := List.mem_filterMap.mp hq
  exact h.2 q (List.mem_of_getElem? hk)
theorem th_L.store {ls : Array Slot} {nL : Nat} {l : List (Nat × Value)} (h : th_L ls nL l) {i : Nat} {v : Value} (hi : i < nL) (hc : v.category = 1) : ∃ ls', storeLocals ls i v = some ls' ∧ th_L ls' nL ((i, v) :: l.filter (fun q => !(q.1 == i))) := by
  obtain ⟨ls', h1, h2⟩ := lv_store1 h.1 hi hc
  have e : l.filter (fun q => !(q.1 == i) && !(q.1 + 1 == i && q.2.category == 2)) = l.filter (fun q => !(q.1 == i)) := by
    refine List.filter_congr fun q hq => ?_
    rw [h.2 q hq]
    simp
  rw [e] at h2
  refine ⟨ls', h1, h2, fun q hq => ?_⟩
  rcases List.mem_cons.mp hq with rfl | hq
  · exact hc
  · exact h.2 q (List.mem_filter.mp hq).1
