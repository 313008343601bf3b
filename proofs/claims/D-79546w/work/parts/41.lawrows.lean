/-! ROWS of the law's own method -/
set_option maxRecDepth 100000
def RL : String := "TitheBarnLaw"
abbrev th_EL (p : Program) (m : MethodId) (c : Code) (s : State) (b : Nat) (meth : Method) (D : tD) (L : Nat) (xs : Nat → Int32) (B : Nat) : Prop :=
  CallFix p m c cL_law 8 s #[Value.ref b] lw_all RL ∧ meth.sig.returnType = ret ∧ meth.locks = false ∧ th_K D s ∧ th_St B s s.heap ∧ va_X b L xs s s.heap ∧ b < s.heap.size ∧ B = s.heap.size ∧ ¬ th_A B b
theorem th_c1L {l : List (Nat × Value)} (h : th_c1 (l.map (fun q => q.2))) : ∀ q ∈ l, q.2.category = 1 := fun q hq => h _ (List.mem_map.mpr ⟨q, hq, rfl⟩)
theorem th_Lraw {ls : Array Slot} {nL : Nat} {l : List (Nat × Value)} (h : lv_has ls nL l) (h1 : ∀ q ∈ l, q.2.category = 1) : th_L ls nL l := ⟨h, h1⟩
theorem th_nmd {p : Program} {l : Launch} {e : Env} {R : Room} {s : State} {m : MethodId} {args : Array Value} {below : List Frame} {meth : Method} {c : Code} {H : Heap} {locs : List Loc} {cells slots : Nat} {Q : State → Prop} {pc : Nat} {ls : Array Slot} {rest : List Value} {x v : UInt64} (h : v = x) (k : W p l e R s m args below meth c H locs cells slots Q (F0 m pc ls (.double v :: rest))) : W p l e R s m args below meth c H locs cells slots Q (F0 m pc ls (.double x :: rest)) := h ▸ k
theorem th_lret {p : Program} {l : Launch} {e : Env} {s : State} {m : MethodId} {below : List Frame} {meth : Method} {c : Code} {b B : Nat} (hx : p.tables.exec = Jvm.exec) (hb : c.code = cL_law) (hr : meth.sig.returnType = ret) (hlk : meth.locks = false) (hB : B = s.heap.size) {pc : Nat} {H : Heap} {locs : List Loc} {cells slots : Nat} {ls : Array Slot} (hS : va_S (th_A B) s.heap H locs) (h1 : cells ≤ 1200048) (h2 : slots ≤ 5501818) (hdg : decode cL_law pc = .ok (.ireturn, 1)) :
    W p l e room_1 s m #[Value.ref b] below meth c H locs cells slots (lw_Z below #[Value.ref b] s) (F0 m pc ls [.int 1]) :=
  W.widen h1 h2 (fun T hT X => lw_ret hx hb hr hlk hdg T hT (Stand.forget (extra := locs) X (fun q hq => by have h := hS.2.2 q hq; rw [hB] at h; exact h)))
def dkwL_law_46 : List UInt8 := [182, 0, 164, 44, 182, 0, 167, 159, 0, 5, 3, 172, 132, 3, 4, 167, 251, 68, 4, 172]
abbrev dktL_law_46 : List UInt8 := dkwL_law_46 ++ []
def dkwL_law_45 : List UInt8 := [182, 0, 159, 159, 0, 31, 3, 172, 43, 182, 0, 160, 44, 182, 0, 163, 159, 0, 18, 3, 172, 43]
abbrev dktL_law_45 : List UInt8 := dkwL_law_45 ++ dktL_law_46
def dkwL_law_44 : List UInt8 := [46, 182, 0, 152, 44, 42, 29, 4, 96, 46, 182, 0, 155, 159, 0, 44, 3, 172, 43, 182, 0, 156, 44]
abbrev dktL_law_44 : List UInt8 := dkwL_law_44 ++ dktL_law_45
def dkwL_law_43 : List UInt8 := [96, 46, 182, 0, 148, 44, 42, 29, 4, 96, 46, 182, 0, 151, 159, 0, 67, 3, 172, 43, 42, 29, 4, 96]
abbrev dktL_law_43 : List UInt8 := dkwL_law_43 ++ dktL_law_44
def dkwL_law_42 : List UInt8 := [4, 96, 46, 182, 0, 144, 44, 42, 29, 4, 96, 46, 182, 0, 147, 159, 0, 90, 3, 172, 43, 42, 29, 4]
abbrev dktL_law_42 : List UInt8 := dkwL_law_42 ++ dktL_law_43
def dkwL_law_41 : List UInt8 := [24, 4, 24, 4, 151, 153, 0, 11, 24, 6, 24, 6, 151, 154, 0, 5, 3, 172, 167, 0, 111, 43, 42, 29]
abbrev dktL_law_41 : List UInt8 := dkwL_law_41 ++ dktL_law_42
def dkwL_law_40 : List UInt8 := [167, 0, 152, 43, 182, 0, 139, 57, 4, 44, 182, 0, 143, 57, 6, 24, 4, 24, 6, 151, 153, 0, 21]
abbrev dktL_law_40 : List UInt8 := dkwL_law_40 ++ dktL_law_41
def dkwL_law_39 : List UInt8 := [24, 6, 151, 153, 0, 21, 24, 4, 24, 4, 151, 153, 0, 11, 24, 6, 24, 6, 151, 154, 0, 5, 3, 172]
abbrev dktL_law_39 : List UInt8 := dkwL_law_39 ++ dktL_law_40
def dkwL_law_38 : List UInt8 := [4, 96, 46, 182, 0, 134, 141, 57, 4, 44, 42, 29, 4, 96, 46, 182, 0, 138, 141, 57, 6, 24, 4]
abbrev dktL_law_38 : List UInt8 := dkwL_law_38 ++ dktL_law_39
def dkwL_law_37 : List UInt8 := [182, 0, 129, 159, 0, 220, 3, 172, 43, 182, 0, 130, 44, 182, 0, 133, 159, 0, 207, 3, 172, 43, 42, 29]
abbrev dktL_law_37 : List UInt8 := dkwL_law_37 ++ dktL_law_38
def dkwL_law_36 : List UInt8 := [182, 0, 125, 159, 0, 243, 3, 172, 43, 42, 29, 4, 96, 46, 182, 0, 126, 44, 42, 29, 4, 96, 46]
abbrev dktL_law_36 : List UInt8 := dkwL_law_36 ++ dktL_law_37
def dkwL_law_35 : List UInt8 := [46, 182, 0, 121, 159, 1, 10, 3, 172, 43, 42, 29, 4, 96, 46, 182, 0, 122, 44, 42, 29, 4, 96, 46]
abbrev dktL_law_35 : List UInt8 := dkwL_law_35 ++ dktL_law_36
def dkwL_law_34 : List UInt8 := [96, 46, 182, 0, 117, 159, 1, 33, 3, 172, 43, 42, 29, 4, 96, 46, 182, 0, 118, 44, 42, 29, 4, 96]
abbrev dktL_law_34 : List UInt8 := dkwL_law_34 ++ dktL_law_35
def dkwL_law_33 : List UInt8 := [5, 96, 46, 182, 0, 113, 159, 1, 56, 3, 172, 43, 42, 29, 4, 96, 46, 182, 0, 114, 44, 42, 29, 4]
abbrev dktL_law_33 : List UInt8 := dkwL_law_33 ++ dktL_law_34
def dkwL_law_32 : List UInt8 := [3, 172, 43, 42, 29, 4, 96, 46, 42, 29, 5, 96, 46, 182, 0, 110, 44, 42, 29, 4, 96, 46, 42, 29]
abbrev dktL_law_32 : List UInt8 := dkwL_law_32 ++ dktL_law_33
def dkwL_law_31 : List UInt8 := [29, 5, 96, 46, 182, 0, 106, 44, 42, 29, 4, 96, 46, 42, 29, 5, 96, 46, 182, 0, 109, 159, 1, 89]
abbrev dktL_law_31 : List UInt8 := dkwL_law_31 ++ dktL_law_32
def dkwL_law_30 : List UInt8 := [29, 4, 96, 46, 42, 29, 5, 96, 46, 182, 0, 105, 159, 1, 122, 3, 172, 43, 42, 29, 4, 96, 46, 42]
abbrev dktL_law_30 : List UInt8 := dkwL_law_30 ++ dktL_law_31
def dkwL_law_29 : List UInt8 := [182, 0, 101, 159, 1, 155, 3, 172, 43, 42, 29, 4, 96, 46, 42, 29, 5, 96, 46, 182, 0, 102, 44, 42]
abbrev dktL_law_29 : List UInt8 := dkwL_law_29 ++ dktL_law_30
def dkwL_law_28 : List UInt8 := [29, 4, 96, 46, 42, 29, 5, 96, 46, 182, 0, 98, 44, 42, 29, 4, 96, 46, 42, 29, 5, 96, 46]
abbrev dktL_law_28 : List UInt8 := dkwL_law_28 ++ dktL_law_29
def dkwL_law_27 : List UInt8 := [182, 0, 94, 44, 42, 29, 4, 96, 46, 42, 29, 5, 96, 46, 182, 0, 97, 159, 1, 188, 3, 172, 43, 42]
abbrev dktL_law_27 : List UInt8 := dkwL_law_27 ++ dktL_law_28
def dkwL_law_26 : List UInt8 := [29, 6, 96, 46, 182, 0, 93, 159, 1, 221, 3, 172, 43, 42, 29, 4, 96, 46, 42, 29, 5, 96, 46]
abbrev dktL_law_26 : List UInt8 := dkwL_law_26 ++ dktL_law_27
def dkwL_law_25 : List UInt8 := [29, 5, 96, 46, 42, 29, 6, 96, 46, 182, 0, 90, 44, 42, 29, 4, 96, 46, 42, 29, 5, 96, 46, 42]
abbrev dktL_law_25 : List UInt8 := dkwL_law_25 ++ dktL_law_26
def dkwL_law_24 : List UInt8 := [29, 4, 96, 46, 42, 29, 5, 96, 46, 182, 0, 89, 159, 2, 8, 3, 172, 43, 42, 29, 4, 96, 46, 42]
abbrev dktL_law_24 : List UInt8 := dkwL_law_24 ++ dktL_law_25
def dkwL_law_23 : List UInt8 := [182, 0, 85, 159, 2, 41, 3, 172, 43, 42, 29, 4, 96, 46, 42, 29, 5, 96, 46, 182, 0, 86, 44, 42]
abbrev dktL_law_23 : List UInt8 := dkwL_law_23 ++ dktL_law_24
def dkwL_law_22 : List UInt8 := [29, 4, 96, 46, 42, 29, 5, 96, 46, 182, 0, 82, 44, 42, 29, 4, 96, 46, 42, 29, 5, 96, 46]
abbrev dktL_law_22 : List UInt8 := dkwL_law_22 ++ dktL_law_23
def dkwL_law_21 : List UInt8 := [182, 0, 78, 44, 42, 29, 4, 96, 46, 42, 29, 5, 96, 46, 182, 0, 81, 159, 2, 74, 3, 172, 43, 42]
abbrev dktL_law_21 : List UInt8 := dkwL_law_21 ++ dktL_law_22
def dkwL_law_20 : List UInt8 := [43, 182, 0, 74, 44, 182, 0, 77, 159, 2, 107, 3, 172, 43, 42, 29, 4, 96, 46, 42, 29, 5, 96, 46]
abbrev dktL_law_20 : List UInt8 := dkwL_law_20 ++ dktL_law_21
def dkwL_law_19 : List UInt8 := [4, 96, 46, 182, 0, 69, 159, 2, 133, 3, 172, 43, 182, 0, 70, 44, 182, 0, 73, 159, 2, 120, 3, 172]
abbrev dktL_law_19 : List UInt8 := dkwL_law_19 ++ dktL_law_20
def dkwL_law_18 : List UInt8 := [29, 4, 96, 46, 182, 0, 65, 159, 2, 156, 3, 172, 43, 42, 29, 4, 96, 46, 182, 0, 66, 44, 42, 29]
abbrev dktL_law_18 : List UInt8 := dkwL_law_18 ++ dktL_law_19
def dkwL_law_17 : List UInt8 := [42, 29, 4, 96, 46, 182, 0, 61, 159, 2, 179, 3, 172, 43, 42, 29, 4, 96, 46, 182, 0, 62, 44, 42]
abbrev dktL_law_17 : List UInt8 := dkwL_law_17 ++ dktL_law_18
def dkwL_law_16 : List UInt8 := [46, 42, 29, 5, 96, 46, 182, 0, 57, 159, 2, 202, 3, 172, 43, 42, 29, 4, 96, 46, 182, 0, 58, 44]
abbrev dktL_law_16 : List UInt8 := dkwL_law_16 ++ dktL_law_17
def dkwL_law_15 : List UInt8 := [159, 2, 235, 3, 172, 43, 42, 29, 4, 96, 46, 42, 29, 5, 96, 46, 182, 0, 54, 44, 42, 29, 4, 96]
abbrev dktL_law_15 : List UInt8 := dkwL_law_15 ++ dktL_law_16
def dkwL_law_14 : List UInt8 := [182, 0, 50, 44, 42, 29, 4, 96, 46, 42, 29, 5, 96, 46, 42, 29, 6, 96, 46, 182, 0, 53]
abbrev dktL_law_14 : List UInt8 := dkwL_law_14 ++ dktL_law_15
def dkwL_law_13 : List UInt8 := [182, 0, 49, 159, 3, 22, 3, 172, 43, 42, 29, 4, 96, 46, 42, 29, 5, 96, 46, 42, 29, 6, 96, 46]
abbrev dktL_law_13 : List UInt8 := dkwL_law_13 ++ dktL_law_14
def dkwL_law_12 : List UInt8 := [29, 4, 96, 46, 42, 29, 5, 96, 46, 182, 0, 46, 44, 42, 29, 4, 96, 46, 42, 29, 5, 96, 46]
abbrev dktL_law_12 : List UInt8 := dkwL_law_12 ++ dktL_law_13
def dkwL_law_11 : List UInt8 := [182, 0, 42, 44, 42, 29, 4, 96, 46, 42, 29, 5, 96, 46, 182, 0, 45, 159, 3, 55, 3, 172, 43, 42]
abbrev dktL_law_11 : List UInt8 := dkwL_law_11 ++ dktL_law_12
def dkwL_law_10 : List UInt8 := [29, 6, 96, 46, 182, 0, 41, 159, 3, 88, 3, 172, 43, 42, 29, 4, 96, 46, 42, 29, 5, 96, 46]
abbrev dktL_law_10 : List UInt8 := dkwL_law_10 ++ dktL_law_11
def dkwL_law_9 : List UInt8 := [29, 5, 96, 46, 42, 29, 6, 96, 46, 182, 0, 38, 44, 42, 29, 4, 96, 46, 42, 29, 5, 96, 46, 42]
abbrev dktL_law_9 : List UInt8 := dkwL_law_9 ++ dktL_law_10
def dkwL_law_8 : List UInt8 := [29, 5, 96, 46, 42, 29, 6, 96, 46, 182, 0, 37, 159, 3, 131, 3, 172, 43, 42, 29, 4, 96, 46, 42]
abbrev dktL_law_8 : List UInt8 := dkwL_law_8 ++ dktL_law_9
def dkwL_law_7 : List UInt8 := [29, 4, 96, 46, 42, 29, 5, 96, 46, 42, 29, 6, 96, 46, 182, 0, 33, 44, 42, 29, 4, 96, 46, 42]
abbrev dktL_law_7 : List UInt8 := dkwL_law_7 ++ dktL_law_8
def dkwL_law_6 : List UInt8 := [182, 0, 28, 44, 42, 29, 4, 96, 46, 42, 29, 5, 96, 46, 182, 0, 32, 159, 3, 174, 3, 172, 43, 42]
abbrev dktL_law_6 : List UInt8 := dkwL_law_6 ++ dktL_law_7
def dkwL_law_5 : List UInt8 := [42, 29, 4, 96, 46, 182, 0, 27, 159, 3, 207, 3, 172, 43, 42, 29, 4, 96, 46, 42, 29, 5, 96, 46]
abbrev dktL_law_5 : List UInt8 := dkwL_law_5 ++ dktL_law_6
def dkwL_law_4 : List UInt8 := [42, 29, 4, 96, 46, 146, 182, 0, 22, 159, 3, 230, 3, 172, 43, 42, 29, 4, 96, 46, 182, 0, 23, 44]
abbrev dktL_law_4 : List UInt8 := dkwL_law_4 ++ dktL_law_5
def dkwL_law_3 : List UInt8 := [43, 182, 0, 13, 44, 182, 0, 17, 159, 3, 255, 3, 172, 43, 42, 29, 4, 96, 46, 146, 182, 0, 18, 44]
abbrev dktL_law_3 : List UInt8 := dkwL_law_3 ++ dktL_law_4
def dkwL_law_2 : List UInt8 := [170, 0, 0, 0, 0, 0, 4, 171, 0, 0, 0, 0, 0, 0, 0, 36, 0, 0, 0, 164, 0, 0, 0, 177, 0, 0, 0, 202, 0, 0, 0, 225, 0, 0, 1, 2, 0, 0, 1, 45, 0, 0, 1, 88, 0, 0, 1, 121, 0, 0, 1, 154, 0, 0, 1, 197, 0, 0, 1, 230, 0, 0, 1, 253, 0, 0, 2, 20, 0, 0, 2, 43, 0, 0, 2, 56, 0, 0, 2, 69, 0, 0, 2, 102, 0, 0, 2, 135, 0, 0, 2, 168, 0, 0, 2, 211, 0, 0, 2, 244, 0, 0, 3, 21, 0, 0, 3, 54, 0, 0, 3, 87, 0, 0, 3, 120, 0, 0, 3, 143, 0, 0, 3, 166, 0, 0, 3, 189, 0, 0, 3, 212, 0, 0, 3, 225, 0, 0, 4, 22, 0, 0, 4, 63, 0, 0, 4, 86, 0, 0, 4, 109, 0, 0, 4, 132, 0, 0, 4, 145, 0, 0, 4, 158]
abbrev dktL_law_2 : List UInt8 := dkwL_law_2 ++ dktL_law_3
def dkwL_law_1 : List UInt8 := [163, 4, 186, 42, 29, 46, 16, 63, 126]
abbrev dktL_law_1 : List UInt8 := dkwL_law_1 ++ dktL_law_2
def dkwL_law_0 : List UInt8 := [187, 0, 7, 89, 183, 0, 9, 76, 187, 0, 10, 89, 183, 0, 12, 77, 3, 62, 29, 42, 190, 7, 100]
abbrev dktL_law_0 : List UInt8 := dkwL_law_0 ++ dktL_law_1
theorem dksL_law_0 : cL_law.data.toList.drop 0 = dktL_law_0 := by decide +kernel
theorem dksL_law_1 : cL_law.data.toList.drop 23 = dktL_law_1 := dk_seg dksL_law_0 23 rfl rfl
theorem dksL_law_2 : cL_law.data.toList.drop 32 = dktL_law_2 := dk_seg dksL_law_1 9 rfl rfl
theorem dksL_law_3 : cL_law.data.toList.drop 196 = dktL_law_3 := dk_seg dksL_law_2 164 rfl rfl
theorem dksL_law_4 : cL_law.data.toList.drop 220 = dktL_law_4 := dk_seg dksL_law_3 24 rfl rfl
theorem dksL_law_5 : cL_law.data.toList.drop 244 = dktL_law_5 := dk_seg dksL_law_4 24 rfl rfl
theorem dksL_law_6 : cL_law.data.toList.drop 268 = dktL_law_6 := dk_seg dksL_law_5 24 rfl rfl
theorem dksL_law_7 : cL_law.data.toList.drop 292 = dktL_law_7 := dk_seg dksL_law_6 24 rfl rfl
theorem dksL_law_8 : cL_law.data.toList.drop 316 = dktL_law_8 := dk_seg dksL_law_7 24 rfl rfl
theorem dksL_law_9 : cL_law.data.toList.drop 340 = dktL_law_9 := dk_seg dksL_law_8 24 rfl rfl
theorem dksL_law_10 : cL_law.data.toList.drop 364 = dktL_law_10 := dk_seg dksL_law_9 24 rfl rfl
theorem dksL_law_11 : cL_law.data.toList.drop 387 = dktL_law_11 := dk_seg dksL_law_10 23 rfl rfl
theorem dksL_law_12 : cL_law.data.toList.drop 411 = dktL_law_12 := dk_seg dksL_law_11 24 rfl rfl
theorem dksL_law_13 : cL_law.data.toList.drop 434 = dktL_law_13 := dk_seg dksL_law_12 23 rfl rfl
theorem dksL_law_14 : cL_law.data.toList.drop 458 = dktL_law_14 := dk_seg dksL_law_13 24 rfl rfl
theorem dksL_law_15 : cL_law.data.toList.drop 480 = dktL_law_15 := dk_seg dksL_law_14 22 rfl rfl
theorem dksL_law_16 : cL_law.data.toList.drop 504 = dktL_law_16 := dk_seg dksL_law_15 24 rfl rfl
theorem dksL_law_17 : cL_law.data.toList.drop 528 = dktL_law_17 := dk_seg dksL_law_16 24 rfl rfl
theorem dksL_law_18 : cL_law.data.toList.drop 552 = dktL_law_18 := dk_seg dksL_law_17 24 rfl rfl
theorem dksL_law_19 : cL_law.data.toList.drop 576 = dktL_law_19 := dk_seg dksL_law_18 24 rfl rfl
theorem dksL_law_20 : cL_law.data.toList.drop 600 = dktL_law_20 := dk_seg dksL_law_19 24 rfl rfl
theorem dksL_law_21 : cL_law.data.toList.drop 624 = dktL_law_21 := dk_seg dksL_law_20 24 rfl rfl
theorem dksL_law_22 : cL_law.data.toList.drop 648 = dktL_law_22 := dk_seg dksL_law_21 24 rfl rfl
theorem dksL_law_23 : cL_law.data.toList.drop 671 = dktL_law_23 := dk_seg dksL_law_22 23 rfl rfl
theorem dksL_law_24 : cL_law.data.toList.drop 695 = dktL_law_24 := dk_seg dksL_law_23 24 rfl rfl
theorem dksL_law_25 : cL_law.data.toList.drop 719 = dktL_law_25 := dk_seg dksL_law_24 24 rfl rfl
theorem dksL_law_26 : cL_law.data.toList.drop 743 = dktL_law_26 := dk_seg dksL_law_25 24 rfl rfl
theorem dksL_law_27 : cL_law.data.toList.drop 766 = dktL_law_27 := dk_seg dksL_law_26 23 rfl rfl
theorem dksL_law_28 : cL_law.data.toList.drop 790 = dktL_law_28 := dk_seg dksL_law_27 24 rfl rfl
theorem dksL_law_29 : cL_law.data.toList.drop 813 = dktL_law_29 := dk_seg dksL_law_28 23 rfl rfl
theorem dksL_law_30 : cL_law.data.toList.drop 837 = dktL_law_30 := dk_seg dksL_law_29 24 rfl rfl
theorem dksL_law_31 : cL_law.data.toList.drop 861 = dktL_law_31 := dk_seg dksL_law_30 24 rfl rfl
theorem dksL_law_32 : cL_law.data.toList.drop 885 = dktL_law_32 := dk_seg dksL_law_31 24 rfl rfl
theorem dksL_law_33 : cL_law.data.toList.drop 909 = dktL_law_33 := dk_seg dksL_law_32 24 rfl rfl
theorem dksL_law_34 : cL_law.data.toList.drop 933 = dktL_law_34 := dk_seg dksL_law_33 24 rfl rfl
theorem dksL_law_35 : cL_law.data.toList.drop 957 = dktL_law_35 := dk_seg dksL_law_34 24 rfl rfl
theorem dksL_law_36 : cL_law.data.toList.drop 981 = dktL_law_36 := dk_seg dksL_law_35 24 rfl rfl
theorem dksL_law_37 : cL_law.data.toList.drop 1004 = dktL_law_37 := dk_seg dksL_law_36 23 rfl rfl
theorem dksL_law_38 : cL_law.data.toList.drop 1028 = dktL_law_38 := dk_seg dksL_law_37 24 rfl rfl
theorem dksL_law_39 : cL_law.data.toList.drop 1051 = dktL_law_39 := dk_seg dksL_law_38 23 rfl rfl
theorem dksL_law_40 : cL_law.data.toList.drop 1075 = dktL_law_40 := dk_seg dksL_law_39 24 rfl rfl
theorem dksL_law_41 : cL_law.data.toList.drop 1098 = dktL_law_41 := dk_seg dksL_law_40 23 rfl rfl
theorem dksL_law_42 : cL_law.data.toList.drop 1122 = dktL_law_42 := dk_seg dksL_law_41 24 rfl rfl
theorem dksL_law_43 : cL_law.data.toList.drop 1146 = dktL_law_43 := dk_seg dksL_law_42 24 rfl rfl
theorem dksL_law_44 : cL_law.data.toList.drop 1170 = dktL_law_44 := dk_seg dksL_law_43 24 rfl rfl
theorem dksL_law_45 : cL_law.data.toList.drop 1193 = dktL_law_45 := dk_seg dksL_law_44 23 rfl rfl
theorem dksL_law_46 : cL_law.data.toList.drop 1215 = dktL_law_46 := dk_seg dksL_law_45 22 rfl rfl
theorem dL_law_0 : decode cL_law 0 = .ok (.new 7, 3) := dk_187 0 7 (dk_at dksL_law_0 0 rfl rfl)
theorem dL_law_3 : decode cL_law 3 = .ok (.dup, 1) := dk_89 (dk_at dksL_law_0 3 rfl rfl)
theorem dL_law_4 : decode cL_law 4 = .ok (.invokespecial 9, 3) := dk_183 0 9 (dk_at dksL_law_0 4 rfl rfl)
theorem dL_law_7 : decode cL_law 7 = .ok (.astore_n 1, 1) := dk_76 (dk_at dksL_law_0 7 rfl rfl)
theorem dL_law_8 : decode cL_law 8 = .ok (.new 10, 3) := dk_187 0 10 (dk_at dksL_law_0 8 rfl rfl)
theorem dL_law_11 : decode cL_law 11 = .ok (.dup, 1) := dk_89 (dk_at dksL_law_0 11 rfl rfl)
theorem dL_law_12 : decode cL_law 12 = .ok (.invokespecial 12, 3) := dk_183 0 12 (dk_at dksL_law_0 12 rfl rfl)
theorem dL_law_15 : decode cL_law 15 = .ok (.astore_n 2, 1) := dk_77 (dk_at dksL_law_0 15 rfl rfl)
theorem dL_law_16 : decode cL_law 16 = .ok (.iconst 0, 1) := dk_3 (dk_at dksL_law_0 16 rfl rfl)
theorem dL_law_17 : decode cL_law 17 = .ok (.istore_n 3, 1) := dk_62 (dk_at dksL_law_0 17 rfl rfl)
theorem dL_law_18 : decode cL_law 18 = .ok (.iload_n 3, 1) := dk_29 (dk_at dksL_law_0 18 rfl rfl)
theorem dL_law_19 : decode cL_law 19 = .ok (.aload_n 0, 1) := dk_42 (dk_at dksL_law_0 19 rfl rfl)
theorem dL_law_20 : decode cL_law 20 = .ok (.arraylength, 1) := dk_190 (dk_at dksL_law_0 20 rfl rfl)
theorem dL_law_21 : decode cL_law 21 = .ok (.iconst 4, 1) := dk_7 (dk_at dksL_law_0 21 rfl rfl)
theorem dL_law_22 : decode cL_law 22 = .ok (.isub, 1) := dk_100 (dk_at dksL_law_0 22 rfl rfl)
theorem dL_law_23 : decode cL_law 23 = .ok (.if_icmp .gt 1210, 3) := dk_163 4 186 (dk_at dksL_law_1 0 rfl rfl)
theorem dL_law_26 : decode cL_law 26 = .ok (.aload_n 0, 1) := dk_42 (dk_at dksL_law_1 3 rfl rfl)
theorem dL_law_27 : decode cL_law 27 = .ok (.iload_n 3, 1) := dk_29 (dk_at dksL_law_1 4 rfl rfl)
theorem dL_law_28 : decode cL_law 28 = .ok (.iaload, 1) := dk_46 (dk_at dksL_law_1 5 rfl rfl)
theorem dL_law_29 : decode cL_law 29 = .ok (.bipush 63, 2) := dk_16 63 (dk_at dksL_law_1 6 rfl rfl)
theorem dL_law_31 : decode cL_law 31 = .ok (.iand, 1) := dk_126 (dk_at dksL_law_1 8 rfl rfl)
theorem dL_law_32 : decode cL_law 32 = .ok (.tableswitch 1195 0 36 #[164, 177, 202, 225, 258, 301, 344, 377, 410, 453, 486, 509, 532, 555, 568, 581, 614, 647, 680, 723, 756, 789, 822, 855, 888, 911, 934, 957, 980, 993, 1046, 1087, 1110, 1133, 1156, 1169, 1182], 164) := by decide +kernel
theorem dL_law_196 : decode cL_law 196 = .ok (.aload_n 1, 1) := dk_43 (dk_at dksL_law_3 0 rfl rfl)
theorem dL_law_197 : decode cL_law 197 = .ok (.invokevirtual 13, 3) := dk_182 0 13 (dk_at dksL_law_3 1 rfl rfl)
theorem dL_law_200 : decode cL_law 200 = .ok (.aload_n 2, 1) := dk_44 (dk_at dksL_law_3 4 rfl rfl)
theorem dL_law_201 : decode cL_law 201 = .ok (.invokevirtual 17, 3) := dk_182 0 17 (dk_at dksL_law_3 5 rfl rfl)
theorem dL_law_204 : decode cL_law 204 = .ok (.if_icmp .eq 1023, 3) := dk_159 3 255 (dk_at dksL_law_3 8 rfl rfl)
theorem dL_law_207 : decode cL_law 207 = .ok (.iconst 0, 1) := dk_3 (dk_at dksL_law_3 11 rfl rfl)
theorem dL_law_208 : decode cL_law 208 = .ok (.ireturn, 1) := dk_172 (dk_at dksL_law_3 12 rfl rfl)
theorem dL_law_209 : decode cL_law 209 = .ok (.aload_n 1, 1) := dk_43 (dk_at dksL_law_3 13 rfl rfl)
theorem dL_law_210 : decode cL_law 210 = .ok (.aload_n 0, 1) := dk_42 (dk_at dksL_law_3 14 rfl rfl)
theorem dL_law_211 : decode cL_law 211 = .ok (.iload_n 3, 1) := dk_29 (dk_at dksL_law_3 15 rfl rfl)
theorem dL_law_212 : decode cL_law 212 = .ok (.iconst 1, 1) := dk_4 (dk_at dksL_law_3 16 rfl rfl)
theorem dL_law_213 : decode cL_law 213 = .ok (.iadd, 1) := dk_96 (dk_at dksL_law_3 17 rfl rfl)
theorem dL_law_214 : decode cL_law 214 = .ok (.iaload, 1) := dk_46 (dk_at dksL_law_3 18 rfl rfl)
theorem dL_law_215 : decode cL_law 215 = .ok (.i2c, 1) := dk_146 (dk_at dksL_law_3 19 rfl rfl)
theorem dL_law_216 : decode cL_law 216 = .ok (.invokevirtual 18, 3) := dk_182 0 18 (dk_at dksL_law_3 20 rfl rfl)
theorem dL_law_219 : decode cL_law 219 = .ok (.aload_n 2, 1) := dk_44 (dk_at dksL_law_3 23 rfl rfl)
theorem dL_law_220 : decode cL_law 220 = .ok (.aload_n 0, 1) := dk_42 (dk_at dksL_law_4 0 rfl rfl)
theorem dL_law_221 : decode cL_law 221 = .ok (.iload_n 3, 1) := dk_29 (dk_at dksL_law_4 1 rfl rfl)
theorem dL_law_222 : decode cL_law 222 = .ok (.iconst 1, 1) := dk_4 (dk_at dksL_law_4 2 rfl rfl)
theorem dL_law_223 : decode cL_law 223 = .ok (.iadd, 1) := dk_96 (dk_at dksL_law_4 3 rfl rfl)
theorem dL_law_224 : decode cL_law 224 = .ok (.iaload, 1) := dk_46 (dk_at dksL_law_4 4 rfl rfl)
theorem dL_law_225 : decode cL_law 225 = .ok (.i2c, 1) := dk_146 (dk_at dksL_law_4 5 rfl rfl)
theorem dL_law_226 : decode cL_law 226 = .ok (.invokevirtual 22, 3) := dk_182 0 22 (dk_at dksL_law_4 6 rfl rfl)
theorem dL_law_229 : decode cL_law 229 = .ok (.if_icmp .eq 998, 3) := dk_159 3 230 (dk_at dksL_law_4 9 rfl rfl)
theorem dL_law_232 : decode cL_law 232 = .ok (.iconst 0, 1) := dk_3 (dk_at dksL_law_4 12 rfl rfl)
theorem dL_law_233 : decode cL_law 233 = .ok (.ireturn, 1) := dk_172 (dk_at dksL_law_4 13 rfl rfl)
theorem dL_law_234 : decode cL_law 234 = .ok (.aload_n 1, 1) := dk_43 (dk_at dksL_law_4 14 rfl rfl)
theorem dL_law_235 : decode cL_law 235 = .ok (.aload_n 0, 1) := dk_42 (dk_at dksL_law_4 15 rfl rfl)
theorem dL_law_236 : decode cL_law 236 = .ok (.iload_n 3, 1) := dk_29 (dk_at dksL_law_4 16 rfl rfl)
theorem dL_law_237 : decode cL_law 237 = .ok (.iconst 1, 1) := dk_4 (dk_at dksL_law_4 17 rfl rfl)
theorem dL_law_238 : decode cL_law 238 = .ok (.iadd, 1) := dk_96 (dk_at dksL_law_4 18 rfl rfl)
theorem dL_law_239 : decode cL_law 239 = .ok (.iaload, 1) := dk_46 (dk_at dksL_law_4 19 rfl rfl)
theorem dL_law_240 : decode cL_law 240 = .ok (.invokevirtual 23, 3) := dk_182 0 23 (dk_at dksL_law_4 20 rfl rfl)
theorem dL_law_243 : decode cL_law 243 = .ok (.aload_n 2, 1) := dk_44 (dk_at dksL_law_4 23 rfl rfl)
theorem dL_law_244 : decode cL_law 244 = .ok (.aload_n 0, 1) := dk_42 (dk_at dksL_law_5 0 rfl rfl)
theorem dL_law_245 : decode cL_law 245 = .ok (.iload_n 3, 1) := dk_29 (dk_at dksL_law_5 1 rfl rfl)
theorem dL_law_246 : decode cL_law 246 = .ok (.iconst 1, 1) := dk_4 (dk_at dksL_law_5 2 rfl rfl)
theorem dL_law_247 : decode cL_law 247 = .ok (.iadd, 1) := dk_96 (dk_at dksL_law_5 3 rfl rfl)
theorem dL_law_248 : decode cL_law 248 = .ok (.iaload, 1) := dk_46 (dk_at dksL_law_5 4 rfl rfl)
theorem dL_law_249 : decode cL_law 249 = .ok (.invokevirtual 27, 3) := dk_182 0 27 (dk_at dksL_law_5 5 rfl rfl)
theorem dL_law_252 : decode cL_law 252 = .ok (.if_icmp .eq 975, 3) := dk_159 3 207 (dk_at dksL_law_5 8 rfl rfl)
theorem dL_law_255 : decode cL_law 255 = .ok (.iconst 0, 1) := dk_3 (dk_at dksL_law_5 11 rfl rfl)
theorem dL_law_256 : decode cL_law 256 = .ok (.ireturn, 1) := dk_172 (dk_at dksL_law_5 12 rfl rfl)
theorem dL_law_257 : decode cL_law 257 = .ok (.aload_n 1, 1) := dk_43 (dk_at dksL_law_5 13 rfl rfl)
theorem dL_law_258 : decode cL_law 258 = .ok (.aload_n 0, 1) := dk_42 (dk_at dksL_law_5 14 rfl rfl)
theorem dL_law_259 : decode cL_law 259 = .ok (.iload_n 3, 1) := dk_29 (dk_at dksL_law_5 15 rfl rfl)
theorem dL_law_260 : decode cL_law 260 = .ok (.iconst 1, 1) := dk_4 (dk_at dksL_law_5 16 rfl rfl)
theorem dL_law_261 : decode cL_law 261 = .ok (.iadd, 1) := dk_96 (dk_at dksL_law_5 17 rfl rfl)
theorem dL_law_262 : decode cL_law 262 = .ok (.iaload, 1) := dk_46 (dk_at dksL_law_5 18 rfl rfl)
theorem dL_law_263 : decode cL_law 263 = .ok (.aload_n 0, 1) := dk_42 (dk_at dksL_law_5 19 rfl rfl)
theorem dL_law_264 : decode cL_law 264 = .ok (.iload_n 3, 1) := dk_29 (dk_at dksL_law_5 20 rfl rfl)
theorem dL_law_265 : decode cL_law 265 = .ok (.iconst 2, 1) := dk_5 (dk_at dksL_law_5 21 rfl rfl)
theorem dL_law_266 : decode cL_law 266 = .ok (.iadd, 1) := dk_96 (dk_at dksL_law_5 22 rfl rfl)
theorem dL_law_267 : decode cL_law 267 = .ok (.iaload, 1) := dk_46 (dk_at dksL_law_5 23 rfl rfl)
theorem dL_law_268 : decode cL_law 268 = .ok (.invokevirtual 28, 3) := dk_182 0 28 (dk_at dksL_law_6 0 rfl rfl)
theorem dL_law_271 : decode cL_law 271 = .ok (.aload_n 2, 1) := dk_44 (dk_at dksL_law_6 3 rfl rfl)
theorem dL_law_272 : decode cL_law 272 = .ok (.aload_n 0, 1) := dk_42 (dk_at dksL_law_6 4 rfl rfl)
theorem dL_law_273 : decode cL_law 273 = .ok (.iload_n 3, 1) := dk_29 (dk_at dksL_law_6 5 rfl rfl)
theorem dL_law_274 : decode cL_law 274 = .ok (.iconst 1, 1) := dk_4 (dk_at dksL_law_6 6 rfl rfl)
theorem dL_law_275 : decode cL_law 275 = .ok (.iadd, 1) := dk_96 (dk_at dksL_law_6 7 rfl rfl)
theorem dL_law_276 : decode cL_law 276 = .ok (.iaload, 1) := dk_46 (dk_at dksL_law_6 8 rfl rfl)
theorem dL_law_277 : decode cL_law 277 = .ok (.aload_n 0, 1) := dk_42 (dk_at dksL_law_6 9 rfl rfl)
theorem dL_law_278 : decode cL_law 278 = .ok (.iload_n 3, 1) := dk_29 (dk_at dksL_law_6 10 rfl rfl)
theorem dL_law_279 : decode cL_law 279 = .ok (.iconst 2, 1) := dk_5 (dk_at dksL_law_6 11 rfl rfl)
theorem dL_law_280 : decode cL_law 280 = .ok (.iadd, 1) := dk_96 (dk_at dksL_law_6 12 rfl rfl)
theorem dL_law_281 : decode cL_law 281 = .ok (.iaload, 1) := dk_46 (dk_at dksL_law_6 13 rfl rfl)
theorem dL_law_282 : decode cL_law 282 = .ok (.invokevirtual 32, 3) := dk_182 0 32 (dk_at dksL_law_6 14 rfl rfl)
theorem dL_law_285 : decode cL_law 285 = .ok (.if_icmp .eq 942, 3) := dk_159 3 174 (dk_at dksL_law_6 17 rfl rfl)
theorem dL_law_288 : decode cL_law 288 = .ok (.iconst 0, 1) := dk_3 (dk_at dksL_law_6 20 rfl rfl)
theorem dL_law_289 : decode cL_law 289 = .ok (.ireturn, 1) := dk_172 (dk_at dksL_law_6 21 rfl rfl)
theorem dL_law_290 : decode cL_law 290 = .ok (.aload_n 1, 1) := dk_43 (dk_at dksL_law_6 22 rfl rfl)
theorem dL_law_291 : decode cL_law 291 = .ok (.aload_n 0, 1) := dk_42 (dk_at dksL_law_6 23 rfl rfl)
theorem dL_law_292 : decode cL_law 292 = .ok (.iload_n 3, 1) := dk_29 (dk_at dksL_law_7 0 rfl rfl)
theorem dL_law_293 : decode cL_law 293 = .ok (.iconst 1, 1) := dk_4 (dk_at dksL_law_7 1 rfl rfl)
theorem dL_law_294 : decode cL_law 294 = .ok (.iadd, 1) := dk_96 (dk_at dksL_law_7 2 rfl rfl)
theorem dL_law_295 : decode cL_law 295 = .ok (.iaload, 1) := dk_46 (dk_at dksL_law_7 3 rfl rfl)
theorem dL_law_296 : decode cL_law 296 = .ok (.aload_n 0, 1) := dk_42 (dk_at dksL_law_7 4 rfl rfl)
theorem dL_law_297 : decode cL_law 297 = .ok (.iload_n 3, 1) := dk_29 (dk_at dksL_law_7 5 rfl rfl)
theorem dL_law_298 : decode cL_law 298 = .ok (.iconst 2, 1) := dk_5 (dk_at dksL_law_7 6 rfl rfl)
theorem dL_law_299 : decode cL_law 299 = .ok (.iadd, 1) := dk_96 (dk_at dksL_law_7 7 rfl rfl)
theorem dL_law_300 : decode cL_law 300 = .ok (.iaload, 1) := dk_46 (dk_at dksL_law_7 8 rfl rfl)
theorem dL_law_301 : decode cL_law 301 = .ok (.aload_n 0, 1) := dk_42 (dk_at dksL_law_7 9 rfl rfl)
theorem dL_law_302 : decode cL_law 302 = .ok (.iload_n 3, 1) := dk_29 (dk_at dksL_law_7 10 rfl rfl)
theorem dL_law_303 : decode cL_law 303 = .ok (.iconst 3, 1) := dk_6 (dk_at dksL_law_7 11 rfl rfl)
theorem dL_law_304 : decode cL_law 304 = .ok (.iadd, 1) := dk_96 (dk_at dksL_law_7 12 rfl rfl)
theorem dL_law_305 : decode cL_law 305 = .ok (.iaload, 1) := dk_46 (dk_at dksL_law_7 13 rfl rfl)
theorem dL_law_306 : decode cL_law 306 = .ok (.invokevirtual 33, 3) := dk_182 0 33 (dk_at dksL_law_7 14 rfl rfl)
theorem dL_law_309 : decode cL_law 309 = .ok (.aload_n 2, 1) := dk_44 (dk_at dksL_law_7 17 rfl rfl)
theorem dL_law_310 : decode cL_law 310 = .ok (.aload_n 0, 1) := dk_42 (dk_at dksL_law_7 18 rfl rfl)
theorem dL_law_311 : decode cL_law 311 = .ok (.iload_n 3, 1) := dk_29 (dk_at dksL_law_7 19 rfl rfl)
theorem dL_law_312 : decode cL_law 312 = .ok (.iconst 1, 1) := dk_4 (dk_at dksL_law_7 20 rfl rfl)
theorem dL_law_313 : decode cL_law 313 = .ok (.iadd, 1) := dk_96 (dk_at dksL_law_7 21 rfl rfl)
theorem dL_law_314 : decode cL_law 314 = .ok (.iaload, 1) := dk_46 (dk_at dksL_law_7 22 rfl rfl)
theorem dL_law_315 : decode cL_law 315 = .ok (.aload_n 0, 1) := dk_42 (dk_at dksL_law_7 23 rfl rfl)
theorem dL_law_316 : decode cL_law 316 = .ok (.iload_n 3, 1) := dk_29 (dk_at dksL_law_8 0 rfl rfl)
theorem dL_law_317 : decode cL_law 317 = .ok (.iconst 2, 1) := dk_5 (dk_at dksL_law_8 1 rfl rfl)
theorem dL_law_318 : decode cL_law 318 = .ok (.iadd, 1) := dk_96 (dk_at dksL_law_8 2 rfl rfl)
theorem dL_law_319 : decode cL_law 319 = .ok (.iaload, 1) := dk_46 (dk_at dksL_law_8 3 rfl rfl)
theorem dL_law_320 : decode cL_law 320 = .ok (.aload_n 0, 1) := dk_42 (dk_at dksL_law_8 4 rfl rfl)
theorem dL_law_321 : decode cL_law 321 = .ok (.iload_n 3, 1) := dk_29 (dk_at dksL_law_8 5 rfl rfl)
theorem dL_law_322 : decode cL_law 322 = .ok (.iconst 3, 1) := dk_6 (dk_at dksL_law_8 6 rfl rfl)
theorem dL_law_323 : decode cL_law 323 = .ok (.iadd, 1) := dk_96 (dk_at dksL_law_8 7 rfl rfl)
theorem dL_law_324 : decode cL_law 324 = .ok (.iaload, 1) := dk_46 (dk_at dksL_law_8 8 rfl rfl)
theorem dL_law_325 : decode cL_law 325 = .ok (.invokevirtual 37, 3) := dk_182 0 37 (dk_at dksL_law_8 9 rfl rfl)
theorem dL_law_328 : decode cL_law 328 = .ok (.if_icmp .eq 899, 3) := dk_159 3 131 (dk_at dksL_law_8 12 rfl rfl)
theorem dL_law_331 : decode cL_law 331 = .ok (.iconst 0, 1) := dk_3 (dk_at dksL_law_8 15 rfl rfl)
theorem dL_law_332 : decode cL_law 332 = .ok (.ireturn, 1) := dk_172 (dk_at dksL_law_8 16 rfl rfl)
theorem dL_law_333 : decode cL_law 333 = .ok (.aload_n 1, 1) := dk_43 (dk_at dksL_law_8 17 rfl rfl)
theorem dL_law_334 : decode cL_law 334 = .ok (.aload_n 0, 1) := dk_42 (dk_at dksL_law_8 18 rfl rfl)
theorem dL_law_335 : decode cL_law 335 = .ok (.iload_n 3, 1) := dk_29 (dk_at dksL_law_8 19 rfl rfl)
theorem dL_law_336 : decode cL_law 336 = .ok (.iconst 1, 1) := dk_4 (dk_at dksL_law_8 20 rfl rfl)
theorem dL_law_337 : decode cL_law 337 = .ok (.iadd, 1) := dk_96 (dk_at dksL_law_8 21 rfl rfl)
theorem dL_law_338 : decode cL_law 338 = .ok (.iaload, 1) := dk_46 (dk_at dksL_law_8 22 rfl rfl)
theorem dL_law_339 : decode cL_law 339 = .ok (.aload_n 0, 1) := dk_42 (dk_at dksL_law_8 23 rfl rfl)
theorem dL_law_340 : decode cL_law 340 = .ok (.iload_n 3, 1) := dk_29 (dk_at dksL_law_9 0 rfl rfl)
theorem dL_law_341 : decode cL_law 341 = .ok (.iconst 2, 1) := dk_5 (dk_at dksL_law_9 1 rfl rfl)
theorem dL_law_342 : decode cL_law 342 = .ok (.iadd, 1) := dk_96 (dk_at dksL_law_9 2 rfl rfl)
theorem dL_law_343 : decode cL_law 343 = .ok (.iaload, 1) := dk_46 (dk_at dksL_law_9 3 rfl rfl)
theorem dL_law_344 : decode cL_law 344 = .ok (.aload_n 0, 1) := dk_42 (dk_at dksL_law_9 4 rfl rfl)
theorem dL_law_345 : decode cL_law 345 = .ok (.iload_n 3, 1) := dk_29 (dk_at dksL_law_9 5 rfl rfl)
theorem dL_law_346 : decode cL_law 346 = .ok (.iconst 3, 1) := dk_6 (dk_at dksL_law_9 6 rfl rfl)
theorem dL_law_347 : decode cL_law 347 = .ok (.iadd, 1) := dk_96 (dk_at dksL_law_9 7 rfl rfl)
theorem dL_law_348 : decode cL_law 348 = .ok (.iaload, 1) := dk_46 (dk_at dksL_law_9 8 rfl rfl)
theorem dL_law_349 : decode cL_law 349 = .ok (.invokevirtual 38, 3) := dk_182 0 38 (dk_at dksL_law_9 9 rfl rfl)
theorem dL_law_352 : decode cL_law 352 = .ok (.aload_n 2, 1) := dk_44 (dk_at dksL_law_9 12 rfl rfl)
theorem dL_law_353 : decode cL_law 353 = .ok (.aload_n 0, 1) := dk_42 (dk_at dksL_law_9 13 rfl rfl)
theorem dL_law_354 : decode cL_law 354 = .ok (.iload_n 3, 1) := dk_29 (dk_at dksL_law_9 14 rfl rfl)
theorem dL_law_355 : decode cL_law 355 = .ok (.iconst 1, 1) := dk_4 (dk_at dksL_law_9 15 rfl rfl)
theorem dL_law_356 : decode cL_law 356 = .ok (.iadd, 1) := dk_96 (dk_at dksL_law_9 16 rfl rfl)
theorem dL_law_357 : decode cL_law 357 = .ok (.iaload, 1) := dk_46 (dk_at dksL_law_9 17 rfl rfl)
theorem dL_law_358 : decode cL_law 358 = .ok (.aload_n 0, 1) := dk_42 (dk_at dksL_law_9 18 rfl rfl)
theorem dL_law_359 : decode cL_law 359 = .ok (.iload_n 3, 1) := dk_29 (dk_at dksL_law_9 19 rfl rfl)
theorem dL_law_360 : decode cL_law 360 = .ok (.iconst 2, 1) := dk_5 (dk_at dksL_law_9 20 rfl rfl)
theorem dL_law_361 : decode cL_law 361 = .ok (.iadd, 1) := dk_96 (dk_at dksL_law_9 21 rfl rfl)
theorem dL_law_362 : decode cL_law 362 = .ok (.iaload, 1) := dk_46 (dk_at dksL_law_9 22 rfl rfl)
theorem dL_law_363 : decode cL_law 363 = .ok (.aload_n 0, 1) := dk_42 (dk_at dksL_law_9 23 rfl rfl)
theorem dL_law_364 : decode cL_law 364 = .ok (.iload_n 3, 1) := dk_29 (dk_at dksL_law_10 0 rfl rfl)
theorem dL_law_365 : decode cL_law 365 = .ok (.iconst 3, 1) := dk_6 (dk_at dksL_law_10 1 rfl rfl)
theorem dL_law_366 : decode cL_law 366 = .ok (.iadd, 1) := dk_96 (dk_at dksL_law_10 2 rfl rfl)
theorem dL_law_367 : decode cL_law 367 = .ok (.iaload, 1) := dk_46 (dk_at dksL_law_10 3 rfl rfl)
theorem dL_law_368 : decode cL_law 368 = .ok (.invokevirtual 41, 3) := dk_182 0 41 (dk_at dksL_law_10 4 rfl rfl)
theorem dL_law_371 : decode cL_law 371 = .ok (.if_icmp .eq 856, 3) := dk_159 3 88 (dk_at dksL_law_10 7 rfl rfl)
theorem dL_law_374 : decode cL_law 374 = .ok (.iconst 0, 1) := dk_3 (dk_at dksL_law_10 10 rfl rfl)
theorem dL_law_375 : decode cL_law 375 = .ok (.ireturn, 1) := dk_172 (dk_at dksL_law_10 11 rfl rfl)
theorem dL_law_376 : decode cL_law 376 = .ok (.aload_n 1, 1) := dk_43 (dk_at dksL_law_10 12 rfl rfl)
theorem dL_law_377 : decode cL_law 377 = .ok (.aload_n 0, 1) := dk_42 (dk_at dksL_law_10 13 rfl rfl)
theorem dL_law_378 : decode cL_law 378 = .ok (.iload_n 3, 1) := dk_29 (dk_at dksL_law_10 14 rfl rfl)
theorem dL_law_379 : decode cL_law 379 = .ok (.iconst 1, 1) := dk_4 (dk_at dksL_law_10 15 rfl rfl)
theorem dL_law_380 : decode cL_law 380 = .ok (.iadd, 1) := dk_96 (dk_at dksL_law_10 16 rfl rfl)
theorem dL_law_381 : decode cL_law 381 = .ok (.iaload, 1) := dk_46 (dk_at dksL_law_10 17 rfl rfl)
theorem dL_law_382 : decode cL_law 382 = .ok (.aload_n 0, 1) := dk_42 (dk_at dksL_law_10 18 rfl rfl)
theorem dL_law_383 : decode cL_law 383 = .ok (.iload_n 3, 1) := dk_29 (dk_at dksL_law_10 19 rfl rfl)
theorem dL_law_384 : decode cL_law 384 = .ok (.iconst 2, 1) := dk_5 (dk_at dksL_law_10 20 rfl rfl)
theorem dL_law_385 : decode cL_law 385 = .ok (.iadd, 1) := dk_96 (dk_at dksL_law_10 21 rfl rfl)
theorem dL_law_386 : decode cL_law 386 = .ok (.iaload, 1) := dk_46 (dk_at dksL_law_10 22 rfl rfl)
theorem dL_law_387 : decode cL_law 387 = .ok (.invokevirtual 42, 3) := dk_182 0 42 (dk_at dksL_law_11 0 rfl rfl)
theorem dL_law_390 : decode cL_law 390 = .ok (.aload_n 2, 1) := dk_44 (dk_at dksL_law_11 3 rfl rfl)
theorem dL_law_391 : decode cL_law 391 = .ok (.aload_n 0, 1) := dk_42 (dk_at dksL_law_11 4 rfl rfl)
theorem dL_law_392 : decode cL_law 392 = .ok (.iload_n 3, 1) := dk_29 (dk_at dksL_law_11 5 rfl rfl)
theorem dL_law_393 : decode cL_law 393 = .ok (.iconst 1, 1) := dk_4 (dk_at dksL_law_11 6 rfl rfl)
theorem dL_law_394 : decode cL_law 394 = .ok (.iadd, 1) := dk_96 (dk_at dksL_law_11 7 rfl rfl)
theorem dL_law_395 : decode cL_law 395 = .ok (.iaload, 1) := dk_46 (dk_at dksL_law_11 8 rfl rfl)
theorem dL_law_396 : decode cL_law 396 = .ok (.aload_n 0, 1) := dk_42 (dk_at dksL_law_11 9 rfl rfl)
theorem dL_law_397 : decode cL_law 397 = .ok (.iload_n 3, 1) := dk_29 (dk_at dksL_law_11 10 rfl rfl)
theorem dL_law_398 : decode cL_law 398 = .ok (.iconst 2, 1) := dk_5 (dk_at dksL_law_11 11 rfl rfl)
theorem dL_law_399 : decode cL_law 399 = .ok (.iadd, 1) := dk_96 (dk_at dksL_law_11 12 rfl rfl)
theorem dL_law_400 : decode cL_law 400 = .ok (.iaload, 1) := dk_46 (dk_at dksL_law_11 13 rfl rfl)
theorem dL_law_401 : decode cL_law 401 = .ok (.invokevirtual 45, 3) := dk_182 0 45 (dk_at dksL_law_11 14 rfl rfl)
theorem dL_law_404 : decode cL_law 404 = .ok (.if_icmp .eq 823, 3) := dk_159 3 55 (dk_at dksL_law_11 17 rfl rfl)
theorem dL_law_407 : decode cL_law 407 = .ok (.iconst 0, 1) := dk_3 (dk_at dksL_law_11 20 rfl rfl)
theorem dL_law_408 : decode cL_law 408 = .ok (.ireturn, 1) := dk_172 (dk_at dksL_law_11 21 rfl rfl)
theorem dL_law_409 : decode cL_law 409 = .ok (.aload_n 1, 1) := dk_43 (dk_at dksL_law_11 22 rfl rfl)
theorem dL_law_410 : decode cL_law 410 = .ok (.aload_n 0, 1) := dk_42 (dk_at dksL_law_11 23 rfl rfl)
theorem dL_law_411 : decode cL_law 411 = .ok (.iload_n 3, 1) := dk_29 (dk_at dksL_law_12 0 rfl rfl)
theorem dL_law_412 : decode cL_law 412 = .ok (.iconst 1, 1) := dk_4 (dk_at dksL_law_12 1 rfl rfl)
theorem dL_law_413 : decode cL_law 413 = .ok (.iadd, 1) := dk_96 (dk_at dksL_law_12 2 rfl rfl)
theorem dL_law_414 : decode cL_law 414 = .ok (.iaload, 1) := dk_46 (dk_at dksL_law_12 3 rfl rfl)
theorem dL_law_415 : decode cL_law 415 = .ok (.aload_n 0, 1) := dk_42 (dk_at dksL_law_12 4 rfl rfl)
theorem dL_law_416 : decode cL_law 416 = .ok (.iload_n 3, 1) := dk_29 (dk_at dksL_law_12 5 rfl rfl)
theorem dL_law_417 : decode cL_law 417 = .ok (.iconst 2, 1) := dk_5 (dk_at dksL_law_12 6 rfl rfl)
theorem dL_law_418 : decode cL_law 418 = .ok (.iadd, 1) := dk_96 (dk_at dksL_law_12 7 rfl rfl)
theorem dL_law_419 : decode cL_law 419 = .ok (.iaload, 1) := dk_46 (dk_at dksL_law_12 8 rfl rfl)
theorem dL_law_420 : decode cL_law 420 = .ok (.invokevirtual 46, 3) := dk_182 0 46 (dk_at dksL_law_12 9 rfl rfl)
theorem dL_law_423 : decode cL_law 423 = .ok (.aload_n 2, 1) := dk_44 (dk_at dksL_law_12 12 rfl rfl)
theorem dL_law_424 : decode cL_law 424 = .ok (.aload_n 0, 1) := dk_42 (dk_at dksL_law_12 13 rfl rfl)
theorem dL_law_425 : decode cL_law 425 = .ok (.iload_n 3, 1) := dk_29 (dk_at dksL_law_12 14 rfl rfl)
theorem dL_law_426 : decode cL_law 426 = .ok (.iconst 1, 1) := dk_4 (dk_at dksL_law_12 15 rfl rfl)
theorem dL_law_427 : decode cL_law 427 = .ok (.iadd, 1) := dk_96 (dk_at dksL_law_12 16 rfl rfl)
theorem dL_law_428 : decode cL_law 428 = .ok (.iaload, 1) := dk_46 (dk_at dksL_law_12 17 rfl rfl)
theorem dL_law_429 : decode cL_law 429 = .ok (.aload_n 0, 1) := dk_42 (dk_at dksL_law_12 18 rfl rfl)
theorem dL_law_430 : decode cL_law 430 = .ok (.iload_n 3, 1) := dk_29 (dk_at dksL_law_12 19 rfl rfl)
theorem dL_law_431 : decode cL_law 431 = .ok (.iconst 2, 1) := dk_5 (dk_at dksL_law_12 20 rfl rfl)
theorem dL_law_432 : decode cL_law 432 = .ok (.iadd, 1) := dk_96 (dk_at dksL_law_12 21 rfl rfl)
theorem dL_law_433 : decode cL_law 433 = .ok (.iaload, 1) := dk_46 (dk_at dksL_law_12 22 rfl rfl)
theorem dL_law_434 : decode cL_law 434 = .ok (.invokevirtual 49, 3) := dk_182 0 49 (dk_at dksL_law_13 0 rfl rfl)
theorem dL_law_437 : decode cL_law 437 = .ok (.if_icmp .eq 790, 3) := dk_159 3 22 (dk_at dksL_law_13 3 rfl rfl)
theorem dL_law_440 : decode cL_law 440 = .ok (.iconst 0, 1) := dk_3 (dk_at dksL_law_13 6 rfl rfl)
theorem dL_law_441 : decode cL_law 441 = .ok (.ireturn, 1) := dk_172 (dk_at dksL_law_13 7 rfl rfl)
theorem dL_law_442 : decode cL_law 442 = .ok (.aload_n 1, 1) := dk_43 (dk_at dksL_law_13 8 rfl rfl)
theorem dL_law_443 : decode cL_law 443 = .ok (.aload_n 0, 1) := dk_42 (dk_at dksL_law_13 9 rfl rfl)
theorem dL_law_444 : decode cL_law 444 = .ok (.iload_n 3, 1) := dk_29 (dk_at dksL_law_13 10 rfl rfl)
theorem dL_law_445 : decode cL_law 445 = .ok (.iconst 1, 1) := dk_4 (dk_at dksL_law_13 11 rfl rfl)
theorem dL_law_446 : decode cL_law 446 = .ok (.iadd, 1) := dk_96 (dk_at dksL_law_13 12 rfl rfl)
theorem dL_law_447 : decode cL_law 447 = .ok (.iaload, 1) := dk_46 (dk_at dksL_law_13 13 rfl rfl)
theorem dL_law_448 : decode cL_law 448 = .ok (.aload_n 0, 1) := dk_42 (dk_at dksL_law_13 14 rfl rfl)
theorem dL_law_449 : decode cL_law 449 = .ok (.iload_n 3, 1) := dk_29 (dk_at dksL_law_13 15 rfl rfl)
theorem dL_law_450 : decode cL_law 450 = .ok (.iconst 2, 1) := dk_5 (dk_at dksL_law_13 16 rfl rfl)
theorem dL_law_451 : decode cL_law 451 = .ok (.iadd, 1) := dk_96 (dk_at dksL_law_13 17 rfl rfl)
theorem dL_law_452 : decode cL_law 452 = .ok (.iaload, 1) := dk_46 (dk_at dksL_law_13 18 rfl rfl)
theorem dL_law_453 : decode cL_law 453 = .ok (.aload_n 0, 1) := dk_42 (dk_at dksL_law_13 19 rfl rfl)
theorem dL_law_454 : decode cL_law 454 = .ok (.iload_n 3, 1) := dk_29 (dk_at dksL_law_13 20 rfl rfl)
theorem dL_law_455 : decode cL_law 455 = .ok (.iconst 3, 1) := dk_6 (dk_at dksL_law_13 21 rfl rfl)
theorem dL_law_456 : decode cL_law 456 = .ok (.iadd, 1) := dk_96 (dk_at dksL_law_13 22 rfl rfl)
theorem dL_law_457 : decode cL_law 457 = .ok (.iaload, 1) := dk_46 (dk_at dksL_law_13 23 rfl rfl)
theorem dL_law_458 : decode cL_law 458 = .ok (.invokevirtual 50, 3) := dk_182 0 50 (dk_at dksL_law_14 0 rfl rfl)
theorem dL_law_461 : decode cL_law 461 = .ok (.aload_n 2, 1) := dk_44 (dk_at dksL_law_14 3 rfl rfl)
theorem dL_law_462 : decode cL_law 462 = .ok (.aload_n 0, 1) := dk_42 (dk_at dksL_law_14 4 rfl rfl)
theorem dL_law_463 : decode cL_law 463 = .ok (.iload_n 3, 1) := dk_29 (dk_at dksL_law_14 5 rfl rfl)
theorem dL_law_464 : decode cL_law 464 = .ok (.iconst 1, 1) := dk_4 (dk_at dksL_law_14 6 rfl rfl)
theorem dL_law_465 : decode cL_law 465 = .ok (.iadd, 1) := dk_96 (dk_at dksL_law_14 7 rfl rfl)
theorem dL_law_466 : decode cL_law 466 = .ok (.iaload, 1) := dk_46 (dk_at dksL_law_14 8 rfl rfl)
theorem dL_law_467 : decode cL_law 467 = .ok (.aload_n 0, 1) := dk_42 (dk_at dksL_law_14 9 rfl rfl)
theorem dL_law_468 : decode cL_law 468 = .ok (.iload_n 3, 1) := dk_29 (dk_at dksL_law_14 10 rfl rfl)
theorem dL_law_469 : decode cL_law 469 = .ok (.iconst 2, 1) := dk_5 (dk_at dksL_law_14 11 rfl rfl)
theorem dL_law_470 : decode cL_law 470 = .ok (.iadd, 1) := dk_96 (dk_at dksL_law_14 12 rfl rfl)
theorem dL_law_471 : decode cL_law 471 = .ok (.iaload, 1) := dk_46 (dk_at dksL_law_14 13 rfl rfl)
theorem dL_law_472 : decode cL_law 472 = .ok (.aload_n 0, 1) := dk_42 (dk_at dksL_law_14 14 rfl rfl)
theorem dL_law_473 : decode cL_law 473 = .ok (.iload_n 3, 1) := dk_29 (dk_at dksL_law_14 15 rfl rfl)
theorem dL_law_474 : decode cL_law 474 = .ok (.iconst 3, 1) := dk_6 (dk_at dksL_law_14 16 rfl rfl)
theorem dL_law_475 : decode cL_law 475 = .ok (.iadd, 1) := dk_96 (dk_at dksL_law_14 17 rfl rfl)
theorem dL_law_476 : decode cL_law 476 = .ok (.iaload, 1) := dk_46 (dk_at dksL_law_14 18 rfl rfl)
theorem dL_law_477 : decode cL_law 477 = .ok (.invokevirtual 53, 3) := dk_182 0 53 (dk_at dksL_law_14 19 rfl rfl)
theorem dL_law_480 : decode cL_law 480 = .ok (.if_icmp .eq 747, 3) := dk_159 2 235 (dk_at dksL_law_15 0 rfl rfl)
theorem dL_law_483 : decode cL_law 483 = .ok (.iconst 0, 1) := dk_3 (dk_at dksL_law_15 3 rfl rfl)
theorem dL_law_484 : decode cL_law 484 = .ok (.ireturn, 1) := dk_172 (dk_at dksL_law_15 4 rfl rfl)
theorem dL_law_485 : decode cL_law 485 = .ok (.aload_n 1, 1) := dk_43 (dk_at dksL_law_15 5 rfl rfl)
theorem dL_law_486 : decode cL_law 486 = .ok (.aload_n 0, 1) := dk_42 (dk_at dksL_law_15 6 rfl rfl)
theorem dL_law_487 : decode cL_law 487 = .ok (.iload_n 3, 1) := dk_29 (dk_at dksL_law_15 7 rfl rfl)
theorem dL_law_488 : decode cL_law 488 = .ok (.iconst 1, 1) := dk_4 (dk_at dksL_law_15 8 rfl rfl)
theorem dL_law_489 : decode cL_law 489 = .ok (.iadd, 1) := dk_96 (dk_at dksL_law_15 9 rfl rfl)
theorem dL_law_490 : decode cL_law 490 = .ok (.iaload, 1) := dk_46 (dk_at dksL_law_15 10 rfl rfl)
theorem dL_law_491 : decode cL_law 491 = .ok (.aload_n 0, 1) := dk_42 (dk_at dksL_law_15 11 rfl rfl)
theorem dL_law_492 : decode cL_law 492 = .ok (.iload_n 3, 1) := dk_29 (dk_at dksL_law_15 12 rfl rfl)
theorem dL_law_493 : decode cL_law 493 = .ok (.iconst 2, 1) := dk_5 (dk_at dksL_law_15 13 rfl rfl)
theorem dL_law_494 : decode cL_law 494 = .ok (.iadd, 1) := dk_96 (dk_at dksL_law_15 14 rfl rfl)
theorem dL_law_495 : decode cL_law 495 = .ok (.iaload, 1) := dk_46 (dk_at dksL_law_15 15 rfl rfl)
theorem dL_law_496 : decode cL_law 496 = .ok (.invokevirtual 54, 3) := dk_182 0 54 (dk_at dksL_law_15 16 rfl rfl)
theorem dL_law_499 : decode cL_law 499 = .ok (.aload_n 2, 1) := dk_44 (dk_at dksL_law_15 19 rfl rfl)
theorem dL_law_500 : decode cL_law 500 = .ok (.aload_n 0, 1) := dk_42 (dk_at dksL_law_15 20 rfl rfl)
theorem dL_law_501 : decode cL_law 501 = .ok (.iload_n 3, 1) := dk_29 (dk_at dksL_law_15 21 rfl rfl)
theorem dL_law_502 : decode cL_law 502 = .ok (.iconst 1, 1) := dk_4 (dk_at dksL_law_15 22 rfl rfl)
theorem dL_law_503 : decode cL_law 503 = .ok (.iadd, 1) := dk_96 (dk_at dksL_law_15 23 rfl rfl)
theorem dL_law_504 : decode cL_law 504 = .ok (.iaload, 1) := dk_46 (dk_at dksL_law_16 0 rfl rfl)
theorem dL_law_505 : decode cL_law 505 = .ok (.aload_n 0, 1) := dk_42 (dk_at dksL_law_16 1 rfl rfl)
theorem dL_law_506 : decode cL_law 506 = .ok (.iload_n 3, 1) := dk_29 (dk_at dksL_law_16 2 rfl rfl)
theorem dL_law_507 : decode cL_law 507 = .ok (.iconst 2, 1) := dk_5 (dk_at dksL_law_16 3 rfl rfl)
theorem dL_law_508 : decode cL_law 508 = .ok (.iadd, 1) := dk_96 (dk_at dksL_law_16 4 rfl rfl)
theorem dL_law_509 : decode cL_law 509 = .ok (.iaload, 1) := dk_46 (dk_at dksL_law_16 5 rfl rfl)
theorem dL_law_510 : decode cL_law 510 = .ok (.invokevirtual 57, 3) := dk_182 0 57 (dk_at dksL_law_16 6 rfl rfl)
theorem dL_law_513 : decode cL_law 513 = .ok (.if_icmp .eq 714, 3) := dk_159 2 202 (dk_at dksL_law_16 9 rfl rfl)
theorem dL_law_516 : decode cL_law 516 = .ok (.iconst 0, 1) := dk_3 (dk_at dksL_law_16 12 rfl rfl)
theorem dL_law_517 : decode cL_law 517 = .ok (.ireturn, 1) := dk_172 (dk_at dksL_law_16 13 rfl rfl)
theorem dL_law_518 : decode cL_law 518 = .ok (.aload_n 1, 1) := dk_43 (dk_at dksL_law_16 14 rfl rfl)
theorem dL_law_519 : decode cL_law 519 = .ok (.aload_n 0, 1) := dk_42 (dk_at dksL_law_16 15 rfl rfl)
theorem dL_law_520 : decode cL_law 520 = .ok (.iload_n 3, 1) := dk_29 (dk_at dksL_law_16 16 rfl rfl)
theorem dL_law_521 : decode cL_law 521 = .ok (.iconst 1, 1) := dk_4 (dk_at dksL_law_16 17 rfl rfl)
theorem dL_law_522 : decode cL_law 522 = .ok (.iadd, 1) := dk_96 (dk_at dksL_law_16 18 rfl rfl)
theorem dL_law_523 : decode cL_law 523 = .ok (.iaload, 1) := dk_46 (dk_at dksL_law_16 19 rfl rfl)
theorem dL_law_524 : decode cL_law 524 = .ok (.invokevirtual 58, 3) := dk_182 0 58 (dk_at dksL_law_16 20 rfl rfl)
theorem dL_law_527 : decode cL_law 527 = .ok (.aload_n 2, 1) := dk_44 (dk_at dksL_law_16 23 rfl rfl)
theorem dL_law_528 : decode cL_law 528 = .ok (.aload_n 0, 1) := dk_42 (dk_at dksL_law_17 0 rfl rfl)
theorem dL_law_529 : decode cL_law 529 = .ok (.iload_n 3, 1) := dk_29 (dk_at dksL_law_17 1 rfl rfl)
theorem dL_law_530 : decode cL_law 530 = .ok (.iconst 1, 1) := dk_4 (dk_at dksL_law_17 2 rfl rfl)
theorem dL_law_531 : decode cL_law 531 = .ok (.iadd, 1) := dk_96 (dk_at dksL_law_17 3 rfl rfl)
theorem dL_law_532 : decode cL_law 532 = .ok (.iaload, 1) := dk_46 (dk_at dksL_law_17 4 rfl rfl)
theorem dL_law_533 : decode cL_law 533 = .ok (.invokevirtual 61, 3) := dk_182 0 61 (dk_at dksL_law_17 5 rfl rfl)
theorem dL_law_536 : decode cL_law 536 = .ok (.if_icmp .eq 691, 3) := dk_159 2 179 (dk_at dksL_law_17 8 rfl rfl)
theorem dL_law_539 : decode cL_law 539 = .ok (.iconst 0, 1) := dk_3 (dk_at dksL_law_17 11 rfl rfl)
theorem dL_law_540 : decode cL_law 540 = .ok (.ireturn, 1) := dk_172 (dk_at dksL_law_17 12 rfl rfl)
theorem dL_law_541 : decode cL_law 541 = .ok (.aload_n 1, 1) := dk_43 (dk_at dksL_law_17 13 rfl rfl)
theorem dL_law_542 : decode cL_law 542 = .ok (.aload_n 0, 1) := dk_42 (dk_at dksL_law_17 14 rfl rfl)
theorem dL_law_543 : decode cL_law 543 = .ok (.iload_n 3, 1) := dk_29 (dk_at dksL_law_17 15 rfl rfl)
theorem dL_law_544 : decode cL_law 544 = .ok (.iconst 1, 1) := dk_4 (dk_at dksL_law_17 16 rfl rfl)
theorem dL_law_545 : decode cL_law 545 = .ok (.iadd, 1) := dk_96 (dk_at dksL_law_17 17 rfl rfl)
theorem dL_law_546 : decode cL_law 546 = .ok (.iaload, 1) := dk_46 (dk_at dksL_law_17 18 rfl rfl)
theorem dL_law_547 : decode cL_law 547 = .ok (.invokevirtual 62, 3) := dk_182 0 62 (dk_at dksL_law_17 19 rfl rfl)
theorem dL_law_550 : decode cL_law 550 = .ok (.aload_n 2, 1) := dk_44 (dk_at dksL_law_17 22 rfl rfl)
theorem dL_law_551 : decode cL_law 551 = .ok (.aload_n 0, 1) := dk_42 (dk_at dksL_law_17 23 rfl rfl)
theorem dL_law_552 : decode cL_law 552 = .ok (.iload_n 3, 1) := dk_29 (dk_at dksL_law_18 0 rfl rfl)
theorem dL_law_553 : decode cL_law 553 = .ok (.iconst 1, 1) := dk_4 (dk_at dksL_law_18 1 rfl rfl)
theorem dL_law_554 : decode cL_law 554 = .ok (.iadd, 1) := dk_96 (dk_at dksL_law_18 2 rfl rfl)
theorem dL_law_555 : decode cL_law 555 = .ok (.iaload, 1) := dk_46 (dk_at dksL_law_18 3 rfl rfl)
theorem dL_law_556 : decode cL_law 556 = .ok (.invokevirtual 65, 3) := dk_182 0 65 (dk_at dksL_law_18 4 rfl rfl)
theorem dL_law_559 : decode cL_law 559 = .ok (.if_icmp .eq 668, 3) := dk_159 2 156 (dk_at dksL_law_18 7 rfl rfl)
theorem dL_law_562 : decode cL_law 562 = .ok (.iconst 0, 1) := dk_3 (dk_at dksL_law_18 10 rfl rfl)
theorem dL_law_563 : decode cL_law 563 = .ok (.ireturn, 1) := dk_172 (dk_at dksL_law_18 11 rfl rfl)
theorem dL_law_564 : decode cL_law 564 = .ok (.aload_n 1, 1) := dk_43 (dk_at dksL_law_18 12 rfl rfl)
theorem dL_law_565 : decode cL_law 565 = .ok (.aload_n 0, 1) := dk_42 (dk_at dksL_law_18 13 rfl rfl)
theorem dL_law_566 : decode cL_law 566 = .ok (.iload_n 3, 1) := dk_29 (dk_at dksL_law_18 14 rfl rfl)
theorem dL_law_567 : decode cL_law 567 = .ok (.iconst 1, 1) := dk_4 (dk_at dksL_law_18 15 rfl rfl)
theorem dL_law_568 : decode cL_law 568 = .ok (.iadd, 1) := dk_96 (dk_at dksL_law_18 16 rfl rfl)
theorem dL_law_569 : decode cL_law 569 = .ok (.iaload, 1) := dk_46 (dk_at dksL_law_18 17 rfl rfl)
theorem dL_law_570 : decode cL_law 570 = .ok (.invokevirtual 66, 3) := dk_182 0 66 (dk_at dksL_law_18 18 rfl rfl)
theorem dL_law_573 : decode cL_law 573 = .ok (.aload_n 2, 1) := dk_44 (dk_at dksL_law_18 21 rfl rfl)
theorem dL_law_574 : decode cL_law 574 = .ok (.aload_n 0, 1) := dk_42 (dk_at dksL_law_18 22 rfl rfl)
theorem dL_law_575 : decode cL_law 575 = .ok (.iload_n 3, 1) := dk_29 (dk_at dksL_law_18 23 rfl rfl)
theorem dL_law_576 : decode cL_law 576 = .ok (.iconst 1, 1) := dk_4 (dk_at dksL_law_19 0 rfl rfl)
theorem dL_law_577 : decode cL_law 577 = .ok (.iadd, 1) := dk_96 (dk_at dksL_law_19 1 rfl rfl)
theorem dL_law_578 : decode cL_law 578 = .ok (.iaload, 1) := dk_46 (dk_at dksL_law_19 2 rfl rfl)
theorem dL_law_579 : decode cL_law 579 = .ok (.invokevirtual 69, 3) := dk_182 0 69 (dk_at dksL_law_19 3 rfl rfl)
theorem dL_law_582 : decode cL_law 582 = .ok (.if_icmp .eq 645, 3) := dk_159 2 133 (dk_at dksL_law_19 6 rfl rfl)
theorem dL_law_585 : decode cL_law 585 = .ok (.iconst 0, 1) := dk_3 (dk_at dksL_law_19 9 rfl rfl)
theorem dL_law_586 : decode cL_law 586 = .ok (.ireturn, 1) := dk_172 (dk_at dksL_law_19 10 rfl rfl)
theorem dL_law_587 : decode cL_law 587 = .ok (.aload_n 1, 1) := dk_43 (dk_at dksL_law_19 11 rfl rfl)
theorem dL_law_588 : decode cL_law 588 = .ok (.invokevirtual 70, 3) := dk_182 0 70 (dk_at dksL_law_19 12 rfl rfl)
theorem dL_law_591 : decode cL_law 591 = .ok (.aload_n 2, 1) := dk_44 (dk_at dksL_law_19 15 rfl rfl)
theorem dL_law_592 : decode cL_law 592 = .ok (.invokevirtual 73, 3) := dk_182 0 73 (dk_at dksL_law_19 16 rfl rfl)
theorem dL_law_595 : decode cL_law 595 = .ok (.if_icmp .eq 632, 3) := dk_159 2 120 (dk_at dksL_law_19 19 rfl rfl)
theorem dL_law_598 : decode cL_law 598 = .ok (.iconst 0, 1) := dk_3 (dk_at dksL_law_19 22 rfl rfl)
theorem dL_law_599 : decode cL_law 599 = .ok (.ireturn, 1) := dk_172 (dk_at dksL_law_19 23 rfl rfl)
theorem dL_law_600 : decode cL_law 600 = .ok (.aload_n 1, 1) := dk_43 (dk_at dksL_law_20 0 rfl rfl)
theorem dL_law_601 : decode cL_law 601 = .ok (.invokevirtual 74, 3) := dk_182 0 74 (dk_at dksL_law_20 1 rfl rfl)
theorem dL_law_604 : decode cL_law 604 = .ok (.aload_n 2, 1) := dk_44 (dk_at dksL_law_20 4 rfl rfl)
theorem dL_law_605 : decode cL_law 605 = .ok (.invokevirtual 77, 3) := dk_182 0 77 (dk_at dksL_law_20 5 rfl rfl)
theorem dL_law_608 : decode cL_law 608 = .ok (.if_icmp .eq 619, 3) := dk_159 2 107 (dk_at dksL_law_20 8 rfl rfl)
theorem dL_law_611 : decode cL_law 611 = .ok (.iconst 0, 1) := dk_3 (dk_at dksL_law_20 11 rfl rfl)
theorem dL_law_612 : decode cL_law 612 = .ok (.ireturn, 1) := dk_172 (dk_at dksL_law_20 12 rfl rfl)
theorem dL_law_613 : decode cL_law 613 = .ok (.aload_n 1, 1) := dk_43 (dk_at dksL_law_20 13 rfl rfl)
theorem dL_law_614 : decode cL_law 614 = .ok (.aload_n 0, 1) := dk_42 (dk_at dksL_law_20 14 rfl rfl)
theorem dL_law_615 : decode cL_law 615 = .ok (.iload_n 3, 1) := dk_29 (dk_at dksL_law_20 15 rfl rfl)
theorem dL_law_616 : decode cL_law 616 = .ok (.iconst 1, 1) := dk_4 (dk_at dksL_law_20 16 rfl rfl)
theorem dL_law_617 : decode cL_law 617 = .ok (.iadd, 1) := dk_96 (dk_at dksL_law_20 17 rfl rfl)
theorem dL_law_618 : decode cL_law 618 = .ok (.iaload, 1) := dk_46 (dk_at dksL_law_20 18 rfl rfl)
theorem dL_law_619 : decode cL_law 619 = .ok (.aload_n 0, 1) := dk_42 (dk_at dksL_law_20 19 rfl rfl)
theorem dL_law_620 : decode cL_law 620 = .ok (.iload_n 3, 1) := dk_29 (dk_at dksL_law_20 20 rfl rfl)
theorem dL_law_621 : decode cL_law 621 = .ok (.iconst 2, 1) := dk_5 (dk_at dksL_law_20 21 rfl rfl)
theorem dL_law_622 : decode cL_law 622 = .ok (.iadd, 1) := dk_96 (dk_at dksL_law_20 22 rfl rfl)
theorem dL_law_623 : decode cL_law 623 = .ok (.iaload, 1) := dk_46 (dk_at dksL_law_20 23 rfl rfl)
theorem dL_law_624 : decode cL_law 624 = .ok (.invokevirtual 78, 3) := dk_182 0 78 (dk_at dksL_law_21 0 rfl rfl)
theorem dL_law_627 : decode cL_law 627 = .ok (.aload_n 2, 1) := dk_44 (dk_at dksL_law_21 3 rfl rfl)
theorem dL_law_628 : decode cL_law 628 = .ok (.aload_n 0, 1) := dk_42 (dk_at dksL_law_21 4 rfl rfl)
theorem dL_law_629 : decode cL_law 629 = .ok (.iload_n 3, 1) := dk_29 (dk_at dksL_law_21 5 rfl rfl)
theorem dL_law_630 : decode cL_law 630 = .ok (.iconst 1, 1) := dk_4 (dk_at dksL_law_21 6 rfl rfl)
theorem dL_law_631 : decode cL_law 631 = .ok (.iadd, 1) := dk_96 (dk_at dksL_law_21 7 rfl rfl)
theorem dL_law_632 : decode cL_law 632 = .ok (.iaload, 1) := dk_46 (dk_at dksL_law_21 8 rfl rfl)
theorem dL_law_633 : decode cL_law 633 = .ok (.aload_n 0, 1) := dk_42 (dk_at dksL_law_21 9 rfl rfl)
theorem dL_law_634 : decode cL_law 634 = .ok (.iload_n 3, 1) := dk_29 (dk_at dksL_law_21 10 rfl rfl)
theorem dL_law_635 : decode cL_law 635 = .ok (.iconst 2, 1) := dk_5 (dk_at dksL_law_21 11 rfl rfl)
theorem dL_law_636 : decode cL_law 636 = .ok (.iadd, 1) := dk_96 (dk_at dksL_law_21 12 rfl rfl)
theorem dL_law_637 : decode cL_law 637 = .ok (.iaload, 1) := dk_46 (dk_at dksL_law_21 13 rfl rfl)
theorem dL_law_638 : decode cL_law 638 = .ok (.invokevirtual 81, 3) := dk_182 0 81 (dk_at dksL_law_21 14 rfl rfl)
theorem dL_law_641 : decode cL_law 641 = .ok (.if_icmp .eq 586, 3) := dk_159 2 74 (dk_at dksL_law_21 17 rfl rfl)
theorem dL_law_644 : decode cL_law 644 = .ok (.iconst 0, 1) := dk_3 (dk_at dksL_law_21 20 rfl rfl)
theorem dL_law_645 : decode cL_law 645 = .ok (.ireturn, 1) := dk_172 (dk_at dksL_law_21 21 rfl rfl)
theorem dL_law_646 : decode cL_law 646 = .ok (.aload_n 1, 1) := dk_43 (dk_at dksL_law_21 22 rfl rfl)
theorem dL_law_647 : decode cL_law 647 = .ok (.aload_n 0, 1) := dk_42 (dk_at dksL_law_21 23 rfl rfl)
theorem dL_law_648 : decode cL_law 648 = .ok (.iload_n 3, 1) := dk_29 (dk_at dksL_law_22 0 rfl rfl)
theorem dL_law_649 : decode cL_law 649 = .ok (.iconst 1, 1) := dk_4 (dk_at dksL_law_22 1 rfl rfl)
theorem dL_law_650 : decode cL_law 650 = .ok (.iadd, 1) := dk_96 (dk_at dksL_law_22 2 rfl rfl)
theorem dL_law_651 : decode cL_law 651 = .ok (.iaload, 1) := dk_46 (dk_at dksL_law_22 3 rfl rfl)
theorem dL_law_652 : decode cL_law 652 = .ok (.aload_n 0, 1) := dk_42 (dk_at dksL_law_22 4 rfl rfl)
theorem dL_law_653 : decode cL_law 653 = .ok (.iload_n 3, 1) := dk_29 (dk_at dksL_law_22 5 rfl rfl)
theorem dL_law_654 : decode cL_law 654 = .ok (.iconst 2, 1) := dk_5 (dk_at dksL_law_22 6 rfl rfl)
theorem dL_law_655 : decode cL_law 655 = .ok (.iadd, 1) := dk_96 (dk_at dksL_law_22 7 rfl rfl)
theorem dL_law_656 : decode cL_law 656 = .ok (.iaload, 1) := dk_46 (dk_at dksL_law_22 8 rfl rfl)
theorem dL_law_657 : decode cL_law 657 = .ok (.invokevirtual 82, 3) := dk_182 0 82 (dk_at dksL_law_22 9 rfl rfl)
theorem dL_law_660 : decode cL_law 660 = .ok (.aload_n 2, 1) := dk_44 (dk_at dksL_law_22 12 rfl rfl)
theorem dL_law_661 : decode cL_law 661 = .ok (.aload_n 0, 1) := dk_42 (dk_at dksL_law_22 13 rfl rfl)
theorem dL_law_662 : decode cL_law 662 = .ok (.iload_n 3, 1) := dk_29 (dk_at dksL_law_22 14 rfl rfl)
theorem dL_law_663 : decode cL_law 663 = .ok (.iconst 1, 1) := dk_4 (dk_at dksL_law_22 15 rfl rfl)
theorem dL_law_664 : decode cL_law 664 = .ok (.iadd, 1) := dk_96 (dk_at dksL_law_22 16 rfl rfl)
theorem dL_law_665 : decode cL_law 665 = .ok (.iaload, 1) := dk_46 (dk_at dksL_law_22 17 rfl rfl)
theorem dL_law_666 : decode cL_law 666 = .ok (.aload_n 0, 1) := dk_42 (dk_at dksL_law_22 18 rfl rfl)
theorem dL_law_667 : decode cL_law 667 = .ok (.iload_n 3, 1) := dk_29 (dk_at dksL_law_22 19 rfl rfl)
theorem dL_law_668 : decode cL_law 668 = .ok (.iconst 2, 1) := dk_5 (dk_at dksL_law_22 20 rfl rfl)
theorem dL_law_669 : decode cL_law 669 = .ok (.iadd, 1) := dk_96 (dk_at dksL_law_22 21 rfl rfl)
theorem dL_law_670 : decode cL_law 670 = .ok (.iaload, 1) := dk_46 (dk_at dksL_law_22 22 rfl rfl)
theorem dL_law_671 : decode cL_law 671 = .ok (.invokevirtual 85, 3) := dk_182 0 85 (dk_at dksL_law_23 0 rfl rfl)
theorem dL_law_674 : decode cL_law 674 = .ok (.if_icmp .eq 553, 3) := dk_159 2 41 (dk_at dksL_law_23 3 rfl rfl)
theorem dL_law_677 : decode cL_law 677 = .ok (.iconst 0, 1) := dk_3 (dk_at dksL_law_23 6 rfl rfl)
theorem dL_law_678 : decode cL_law 678 = .ok (.ireturn, 1) := dk_172 (dk_at dksL_law_23 7 rfl rfl)
theorem dL_law_679 : decode cL_law 679 = .ok (.aload_n 1, 1) := dk_43 (dk_at dksL_law_23 8 rfl rfl)
theorem dL_law_680 : decode cL_law 680 = .ok (.aload_n 0, 1) := dk_42 (dk_at dksL_law_23 9 rfl rfl)
theorem dL_law_681 : decode cL_law 681 = .ok (.iload_n 3, 1) := dk_29 (dk_at dksL_law_23 10 rfl rfl)
theorem dL_law_682 : decode cL_law 682 = .ok (.iconst 1, 1) := dk_4 (dk_at dksL_law_23 11 rfl rfl)
theorem dL_law_683 : decode cL_law 683 = .ok (.iadd, 1) := dk_96 (dk_at dksL_law_23 12 rfl rfl)
theorem dL_law_684 : decode cL_law 684 = .ok (.iaload, 1) := dk_46 (dk_at dksL_law_23 13 rfl rfl)
theorem dL_law_685 : decode cL_law 685 = .ok (.aload_n 0, 1) := dk_42 (dk_at dksL_law_23 14 rfl rfl)
theorem dL_law_686 : decode cL_law 686 = .ok (.iload_n 3, 1) := dk_29 (dk_at dksL_law_23 15 rfl rfl)
theorem dL_law_687 : decode cL_law 687 = .ok (.iconst 2, 1) := dk_5 (dk_at dksL_law_23 16 rfl rfl)
theorem dL_law_688 : decode cL_law 688 = .ok (.iadd, 1) := dk_96 (dk_at dksL_law_23 17 rfl rfl)
theorem dL_law_689 : decode cL_law 689 = .ok (.iaload, 1) := dk_46 (dk_at dksL_law_23 18 rfl rfl)
theorem dL_law_690 : decode cL_law 690 = .ok (.invokevirtual 86, 3) := dk_182 0 86 (dk_at dksL_law_23 19 rfl rfl)
theorem dL_law_693 : decode cL_law 693 = .ok (.aload_n 2, 1) := dk_44 (dk_at dksL_law_23 22 rfl rfl)
theorem dL_law_694 : decode cL_law 694 = .ok (.aload_n 0, 1) := dk_42 (dk_at dksL_law_23 23 rfl rfl)
theorem dL_law_695 : decode cL_law 695 = .ok (.iload_n 3, 1) := dk_29 (dk_at dksL_law_24 0 rfl rfl)
theorem dL_law_696 : decode cL_law 696 = .ok (.iconst 1, 1) := dk_4 (dk_at dksL_law_24 1 rfl rfl)
theorem dL_law_697 : decode cL_law 697 = .ok (.iadd, 1) := dk_96 (dk_at dksL_law_24 2 rfl rfl)
theorem dL_law_698 : decode cL_law 698 = .ok (.iaload, 1) := dk_46 (dk_at dksL_law_24 3 rfl rfl)
theorem dL_law_699 : decode cL_law 699 = .ok (.aload_n 0, 1) := dk_42 (dk_at dksL_law_24 4 rfl rfl)
theorem dL_law_700 : decode cL_law 700 = .ok (.iload_n 3, 1) := dk_29 (dk_at dksL_law_24 5 rfl rfl)
theorem dL_law_701 : decode cL_law 701 = .ok (.iconst 2, 1) := dk_5 (dk_at dksL_law_24 6 rfl rfl)
theorem dL_law_702 : decode cL_law 702 = .ok (.iadd, 1) := dk_96 (dk_at dksL_law_24 7 rfl rfl)
theorem dL_law_703 : decode cL_law 703 = .ok (.iaload, 1) := dk_46 (dk_at dksL_law_24 8 rfl rfl)
theorem dL_law_704 : decode cL_law 704 = .ok (.invokevirtual 89, 3) := dk_182 0 89 (dk_at dksL_law_24 9 rfl rfl)
theorem dL_law_707 : decode cL_law 707 = .ok (.if_icmp .eq 520, 3) := dk_159 2 8 (dk_at dksL_law_24 12 rfl rfl)
theorem dL_law_710 : decode cL_law 710 = .ok (.iconst 0, 1) := dk_3 (dk_at dksL_law_24 15 rfl rfl)
theorem dL_law_711 : decode cL_law 711 = .ok (.ireturn, 1) := dk_172 (dk_at dksL_law_24 16 rfl rfl)
theorem dL_law_712 : decode cL_law 712 = .ok (.aload_n 1, 1) := dk_43 (dk_at dksL_law_24 17 rfl rfl)
theorem dL_law_713 : decode cL_law 713 = .ok (.aload_n 0, 1) := dk_42 (dk_at dksL_law_24 18 rfl rfl)
theorem dL_law_714 : decode cL_law 714 = .ok (.iload_n 3, 1) := dk_29 (dk_at dksL_law_24 19 rfl rfl)
theorem dL_law_715 : decode cL_law 715 = .ok (.iconst 1, 1) := dk_4 (dk_at dksL_law_24 20 rfl rfl)
theorem dL_law_716 : decode cL_law 716 = .ok (.iadd, 1) := dk_96 (dk_at dksL_law_24 21 rfl rfl)
theorem dL_law_717 : decode cL_law 717 = .ok (.iaload, 1) := dk_46 (dk_at dksL_law_24 22 rfl rfl)
theorem dL_law_718 : decode cL_law 718 = .ok (.aload_n 0, 1) := dk_42 (dk_at dksL_law_24 23 rfl rfl)
theorem dL_law_719 : decode cL_law 719 = .ok (.iload_n 3, 1) := dk_29 (dk_at dksL_law_25 0 rfl rfl)
theorem dL_law_720 : decode cL_law 720 = .ok (.iconst 2, 1) := dk_5 (dk_at dksL_law_25 1 rfl rfl)
theorem dL_law_721 : decode cL_law 721 = .ok (.iadd, 1) := dk_96 (dk_at dksL_law_25 2 rfl rfl)
theorem dL_law_722 : decode cL_law 722 = .ok (.iaload, 1) := dk_46 (dk_at dksL_law_25 3 rfl rfl)
theorem dL_law_723 : decode cL_law 723 = .ok (.aload_n 0, 1) := dk_42 (dk_at dksL_law_25 4 rfl rfl)
theorem dL_law_724 : decode cL_law 724 = .ok (.iload_n 3, 1) := dk_29 (dk_at dksL_law_25 5 rfl rfl)
theorem dL_law_725 : decode cL_law 725 = .ok (.iconst 3, 1) := dk_6 (dk_at dksL_law_25 6 rfl rfl)
theorem dL_law_726 : decode cL_law 726 = .ok (.iadd, 1) := dk_96 (dk_at dksL_law_25 7 rfl rfl)
theorem dL_law_727 : decode cL_law 727 = .ok (.iaload, 1) := dk_46 (dk_at dksL_law_25 8 rfl rfl)
theorem dL_law_728 : decode cL_law 728 = .ok (.invokevirtual 90, 3) := dk_182 0 90 (dk_at dksL_law_25 9 rfl rfl)
theorem dL_law_731 : decode cL_law 731 = .ok (.aload_n 2, 1) := dk_44 (dk_at dksL_law_25 12 rfl rfl)
theorem dL_law_732 : decode cL_law 732 = .ok (.aload_n 0, 1) := dk_42 (dk_at dksL_law_25 13 rfl rfl)
theorem dL_law_733 : decode cL_law 733 = .ok (.iload_n 3, 1) := dk_29 (dk_at dksL_law_25 14 rfl rfl)
theorem dL_law_734 : decode cL_law 734 = .ok (.iconst 1, 1) := dk_4 (dk_at dksL_law_25 15 rfl rfl)
theorem dL_law_735 : decode cL_law 735 = .ok (.iadd, 1) := dk_96 (dk_at dksL_law_25 16 rfl rfl)
theorem dL_law_736 : decode cL_law 736 = .ok (.iaload, 1) := dk_46 (dk_at dksL_law_25 17 rfl rfl)
theorem dL_law_737 : decode cL_law 737 = .ok (.aload_n 0, 1) := dk_42 (dk_at dksL_law_25 18 rfl rfl)
theorem dL_law_738 : decode cL_law 738 = .ok (.iload_n 3, 1) := dk_29 (dk_at dksL_law_25 19 rfl rfl)
theorem dL_law_739 : decode cL_law 739 = .ok (.iconst 2, 1) := dk_5 (dk_at dksL_law_25 20 rfl rfl)
theorem dL_law_740 : decode cL_law 740 = .ok (.iadd, 1) := dk_96 (dk_at dksL_law_25 21 rfl rfl)
theorem dL_law_741 : decode cL_law 741 = .ok (.iaload, 1) := dk_46 (dk_at dksL_law_25 22 rfl rfl)
theorem dL_law_742 : decode cL_law 742 = .ok (.aload_n 0, 1) := dk_42 (dk_at dksL_law_25 23 rfl rfl)
theorem dL_law_743 : decode cL_law 743 = .ok (.iload_n 3, 1) := dk_29 (dk_at dksL_law_26 0 rfl rfl)
theorem dL_law_744 : decode cL_law 744 = .ok (.iconst 3, 1) := dk_6 (dk_at dksL_law_26 1 rfl rfl)
theorem dL_law_745 : decode cL_law 745 = .ok (.iadd, 1) := dk_96 (dk_at dksL_law_26 2 rfl rfl)
theorem dL_law_746 : decode cL_law 746 = .ok (.iaload, 1) := dk_46 (dk_at dksL_law_26 3 rfl rfl)
theorem dL_law_747 : decode cL_law 747 = .ok (.invokevirtual 93, 3) := dk_182 0 93 (dk_at dksL_law_26 4 rfl rfl)
theorem dL_law_750 : decode cL_law 750 = .ok (.if_icmp .eq 477, 3) := dk_159 1 221 (dk_at dksL_law_26 7 rfl rfl)
theorem dL_law_753 : decode cL_law 753 = .ok (.iconst 0, 1) := dk_3 (dk_at dksL_law_26 10 rfl rfl)
theorem dL_law_754 : decode cL_law 754 = .ok (.ireturn, 1) := dk_172 (dk_at dksL_law_26 11 rfl rfl)
theorem dL_law_755 : decode cL_law 755 = .ok (.aload_n 1, 1) := dk_43 (dk_at dksL_law_26 12 rfl rfl)
theorem dL_law_756 : decode cL_law 756 = .ok (.aload_n 0, 1) := dk_42 (dk_at dksL_law_26 13 rfl rfl)
theorem dL_law_757 : decode cL_law 757 = .ok (.iload_n 3, 1) := dk_29 (dk_at dksL_law_26 14 rfl rfl)
theorem dL_law_758 : decode cL_law 758 = .ok (.iconst 1, 1) := dk_4 (dk_at dksL_law_26 15 rfl rfl)
theorem dL_law_759 : decode cL_law 759 = .ok (.iadd, 1) := dk_96 (dk_at dksL_law_26 16 rfl rfl)
theorem dL_law_760 : decode cL_law 760 = .ok (.iaload, 1) := dk_46 (dk_at dksL_law_26 17 rfl rfl)
theorem dL_law_761 : decode cL_law 761 = .ok (.aload_n 0, 1) := dk_42 (dk_at dksL_law_26 18 rfl rfl)
theorem dL_law_762 : decode cL_law 762 = .ok (.iload_n 3, 1) := dk_29 (dk_at dksL_law_26 19 rfl rfl)
theorem dL_law_763 : decode cL_law 763 = .ok (.iconst 2, 1) := dk_5 (dk_at dksL_law_26 20 rfl rfl)
theorem dL_law_764 : decode cL_law 764 = .ok (.iadd, 1) := dk_96 (dk_at dksL_law_26 21 rfl rfl)
theorem dL_law_765 : decode cL_law 765 = .ok (.iaload, 1) := dk_46 (dk_at dksL_law_26 22 rfl rfl)
theorem dL_law_766 : decode cL_law 766 = .ok (.invokevirtual 94, 3) := dk_182 0 94 (dk_at dksL_law_27 0 rfl rfl)
theorem dL_law_769 : decode cL_law 769 = .ok (.aload_n 2, 1) := dk_44 (dk_at dksL_law_27 3 rfl rfl)
theorem dL_law_770 : decode cL_law 770 = .ok (.aload_n 0, 1) := dk_42 (dk_at dksL_law_27 4 rfl rfl)
theorem dL_law_771 : decode cL_law 771 = .ok (.iload_n 3, 1) := dk_29 (dk_at dksL_law_27 5 rfl rfl)
theorem dL_law_772 : decode cL_law 772 = .ok (.iconst 1, 1) := dk_4 (dk_at dksL_law_27 6 rfl rfl)
theorem dL_law_773 : decode cL_law 773 = .ok (.iadd, 1) := dk_96 (dk_at dksL_law_27 7 rfl rfl)
theorem dL_law_774 : decode cL_law 774 = .ok (.iaload, 1) := dk_46 (dk_at dksL_law_27 8 rfl rfl)
theorem dL_law_775 : decode cL_law 775 = .ok (.aload_n 0, 1) := dk_42 (dk_at dksL_law_27 9 rfl rfl)
theorem dL_law_776 : decode cL_law 776 = .ok (.iload_n 3, 1) := dk_29 (dk_at dksL_law_27 10 rfl rfl)
theorem dL_law_777 : decode cL_law 777 = .ok (.iconst 2, 1) := dk_5 (dk_at dksL_law_27 11 rfl rfl)
theorem dL_law_778 : decode cL_law 778 = .ok (.iadd, 1) := dk_96 (dk_at dksL_law_27 12 rfl rfl)
theorem dL_law_779 : decode cL_law 779 = .ok (.iaload, 1) := dk_46 (dk_at dksL_law_27 13 rfl rfl)
theorem dL_law_780 : decode cL_law 780 = .ok (.invokevirtual 97, 3) := dk_182 0 97 (dk_at dksL_law_27 14 rfl rfl)
theorem dL_law_783 : decode cL_law 783 = .ok (.if_icmp .eq 444, 3) := dk_159 1 188 (dk_at dksL_law_27 17 rfl rfl)
theorem dL_law_786 : decode cL_law 786 = .ok (.iconst 0, 1) := dk_3 (dk_at dksL_law_27 20 rfl rfl)
theorem dL_law_787 : decode cL_law 787 = .ok (.ireturn, 1) := dk_172 (dk_at dksL_law_27 21 rfl rfl)
theorem dL_law_788 : decode cL_law 788 = .ok (.aload_n 1, 1) := dk_43 (dk_at dksL_law_27 22 rfl rfl)
theorem dL_law_789 : decode cL_law 789 = .ok (.aload_n 0, 1) := dk_42 (dk_at dksL_law_27 23 rfl rfl)
theorem dL_law_790 : decode cL_law 790 = .ok (.iload_n 3, 1) := dk_29 (dk_at dksL_law_28 0 rfl rfl)
theorem dL_law_791 : decode cL_law 791 = .ok (.iconst 1, 1) := dk_4 (dk_at dksL_law_28 1 rfl rfl)
theorem dL_law_792 : decode cL_law 792 = .ok (.iadd, 1) := dk_96 (dk_at dksL_law_28 2 rfl rfl)
theorem dL_law_793 : decode cL_law 793 = .ok (.iaload, 1) := dk_46 (dk_at dksL_law_28 3 rfl rfl)
theorem dL_law_794 : decode cL_law 794 = .ok (.aload_n 0, 1) := dk_42 (dk_at dksL_law_28 4 rfl rfl)
theorem dL_law_795 : decode cL_law 795 = .ok (.iload_n 3, 1) := dk_29 (dk_at dksL_law_28 5 rfl rfl)
theorem dL_law_796 : decode cL_law 796 = .ok (.iconst 2, 1) := dk_5 (dk_at dksL_law_28 6 rfl rfl)
theorem dL_law_797 : decode cL_law 797 = .ok (.iadd, 1) := dk_96 (dk_at dksL_law_28 7 rfl rfl)
theorem dL_law_798 : decode cL_law 798 = .ok (.iaload, 1) := dk_46 (dk_at dksL_law_28 8 rfl rfl)
theorem dL_law_799 : decode cL_law 799 = .ok (.invokevirtual 98, 3) := dk_182 0 98 (dk_at dksL_law_28 9 rfl rfl)
theorem dL_law_802 : decode cL_law 802 = .ok (.aload_n 2, 1) := dk_44 (dk_at dksL_law_28 12 rfl rfl)
theorem dL_law_803 : decode cL_law 803 = .ok (.aload_n 0, 1) := dk_42 (dk_at dksL_law_28 13 rfl rfl)
theorem dL_law_804 : decode cL_law 804 = .ok (.iload_n 3, 1) := dk_29 (dk_at dksL_law_28 14 rfl rfl)
theorem dL_law_805 : decode cL_law 805 = .ok (.iconst 1, 1) := dk_4 (dk_at dksL_law_28 15 rfl rfl)
theorem dL_law_806 : decode cL_law 806 = .ok (.iadd, 1) := dk_96 (dk_at dksL_law_28 16 rfl rfl)
theorem dL_law_807 : decode cL_law 807 = .ok (.iaload, 1) := dk_46 (dk_at dksL_law_28 17 rfl rfl)
theorem dL_law_808 : decode cL_law 808 = .ok (.aload_n 0, 1) := dk_42 (dk_at dksL_law_28 18 rfl rfl)
theorem dL_law_809 : decode cL_law 809 = .ok (.iload_n 3, 1) := dk_29 (dk_at dksL_law_28 19 rfl rfl)
theorem dL_law_810 : decode cL_law 810 = .ok (.iconst 2, 1) := dk_5 (dk_at dksL_law_28 20 rfl rfl)
theorem dL_law_811 : decode cL_law 811 = .ok (.iadd, 1) := dk_96 (dk_at dksL_law_28 21 rfl rfl)
theorem dL_law_812 : decode cL_law 812 = .ok (.iaload, 1) := dk_46 (dk_at dksL_law_28 22 rfl rfl)
theorem dL_law_813 : decode cL_law 813 = .ok (.invokevirtual 101, 3) := dk_182 0 101 (dk_at dksL_law_29 0 rfl rfl)
theorem dL_law_816 : decode cL_law 816 = .ok (.if_icmp .eq 411, 3) := dk_159 1 155 (dk_at dksL_law_29 3 rfl rfl)
theorem dL_law_819 : decode cL_law 819 = .ok (.iconst 0, 1) := dk_3 (dk_at dksL_law_29 6 rfl rfl)
theorem dL_law_820 : decode cL_law 820 = .ok (.ireturn, 1) := dk_172 (dk_at dksL_law_29 7 rfl rfl)
theorem dL_law_821 : decode cL_law 821 = .ok (.aload_n 1, 1) := dk_43 (dk_at dksL_law_29 8 rfl rfl)
theorem dL_law_822 : decode cL_law 822 = .ok (.aload_n 0, 1) := dk_42 (dk_at dksL_law_29 9 rfl rfl)
theorem dL_law_823 : decode cL_law 823 = .ok (.iload_n 3, 1) := dk_29 (dk_at dksL_law_29 10 rfl rfl)
theorem dL_law_824 : decode cL_law 824 = .ok (.iconst 1, 1) := dk_4 (dk_at dksL_law_29 11 rfl rfl)
theorem dL_law_825 : decode cL_law 825 = .ok (.iadd, 1) := dk_96 (dk_at dksL_law_29 12 rfl rfl)
theorem dL_law_826 : decode cL_law 826 = .ok (.iaload, 1) := dk_46 (dk_at dksL_law_29 13 rfl rfl)
theorem dL_law_827 : decode cL_law 827 = .ok (.aload_n 0, 1) := dk_42 (dk_at dksL_law_29 14 rfl rfl)
theorem dL_law_828 : decode cL_law 828 = .ok (.iload_n 3, 1) := dk_29 (dk_at dksL_law_29 15 rfl rfl)
theorem dL_law_829 : decode cL_law 829 = .ok (.iconst 2, 1) := dk_5 (dk_at dksL_law_29 16 rfl rfl)
theorem dL_law_830 : decode cL_law 830 = .ok (.iadd, 1) := dk_96 (dk_at dksL_law_29 17 rfl rfl)
theorem dL_law_831 : decode cL_law 831 = .ok (.iaload, 1) := dk_46 (dk_at dksL_law_29 18 rfl rfl)
theorem dL_law_832 : decode cL_law 832 = .ok (.invokevirtual 102, 3) := dk_182 0 102 (dk_at dksL_law_29 19 rfl rfl)
theorem dL_law_835 : decode cL_law 835 = .ok (.aload_n 2, 1) := dk_44 (dk_at dksL_law_29 22 rfl rfl)
theorem dL_law_836 : decode cL_law 836 = .ok (.aload_n 0, 1) := dk_42 (dk_at dksL_law_29 23 rfl rfl)
theorem dL_law_837 : decode cL_law 837 = .ok (.iload_n 3, 1) := dk_29 (dk_at dksL_law_30 0 rfl rfl)
theorem dL_law_838 : decode cL_law 838 = .ok (.iconst 1, 1) := dk_4 (dk_at dksL_law_30 1 rfl rfl)
theorem dL_law_839 : decode cL_law 839 = .ok (.iadd, 1) := dk_96 (dk_at dksL_law_30 2 rfl rfl)
theorem dL_law_840 : decode cL_law 840 = .ok (.iaload, 1) := dk_46 (dk_at dksL_law_30 3 rfl rfl)
theorem dL_law_841 : decode cL_law 841 = .ok (.aload_n 0, 1) := dk_42 (dk_at dksL_law_30 4 rfl rfl)
theorem dL_law_842 : decode cL_law 842 = .ok (.iload_n 3, 1) := dk_29 (dk_at dksL_law_30 5 rfl rfl)
theorem dL_law_843 : decode cL_law 843 = .ok (.iconst 2, 1) := dk_5 (dk_at dksL_law_30 6 rfl rfl)
theorem dL_law_844 : decode cL_law 844 = .ok (.iadd, 1) := dk_96 (dk_at dksL_law_30 7 rfl rfl)
theorem dL_law_845 : decode cL_law 845 = .ok (.iaload, 1) := dk_46 (dk_at dksL_law_30 8 rfl rfl)
theorem dL_law_846 : decode cL_law 846 = .ok (.invokevirtual 105, 3) := dk_182 0 105 (dk_at dksL_law_30 9 rfl rfl)
theorem dL_law_849 : decode cL_law 849 = .ok (.if_icmp .eq 378, 3) := dk_159 1 122 (dk_at dksL_law_30 12 rfl rfl)
theorem dL_law_852 : decode cL_law 852 = .ok (.iconst 0, 1) := dk_3 (dk_at dksL_law_30 15 rfl rfl)
theorem dL_law_853 : decode cL_law 853 = .ok (.ireturn, 1) := dk_172 (dk_at dksL_law_30 16 rfl rfl)
theorem dL_law_854 : decode cL_law 854 = .ok (.aload_n 1, 1) := dk_43 (dk_at dksL_law_30 17 rfl rfl)
theorem dL_law_855 : decode cL_law 855 = .ok (.aload_n 0, 1) := dk_42 (dk_at dksL_law_30 18 rfl rfl)
theorem dL_law_856 : decode cL_law 856 = .ok (.iload_n 3, 1) := dk_29 (dk_at dksL_law_30 19 rfl rfl)
theorem dL_law_857 : decode cL_law 857 = .ok (.iconst 1, 1) := dk_4 (dk_at dksL_law_30 20 rfl rfl)
theorem dL_law_858 : decode cL_law 858 = .ok (.iadd, 1) := dk_96 (dk_at dksL_law_30 21 rfl rfl)
theorem dL_law_859 : decode cL_law 859 = .ok (.iaload, 1) := dk_46 (dk_at dksL_law_30 22 rfl rfl)
theorem dL_law_860 : decode cL_law 860 = .ok (.aload_n 0, 1) := dk_42 (dk_at dksL_law_30 23 rfl rfl)
theorem dL_law_861 : decode cL_law 861 = .ok (.iload_n 3, 1) := dk_29 (dk_at dksL_law_31 0 rfl rfl)
theorem dL_law_862 : decode cL_law 862 = .ok (.iconst 2, 1) := dk_5 (dk_at dksL_law_31 1 rfl rfl)
theorem dL_law_863 : decode cL_law 863 = .ok (.iadd, 1) := dk_96 (dk_at dksL_law_31 2 rfl rfl)
theorem dL_law_864 : decode cL_law 864 = .ok (.iaload, 1) := dk_46 (dk_at dksL_law_31 3 rfl rfl)
theorem dL_law_865 : decode cL_law 865 = .ok (.invokevirtual 106, 3) := dk_182 0 106 (dk_at dksL_law_31 4 rfl rfl)
theorem dL_law_868 : decode cL_law 868 = .ok (.aload_n 2, 1) := dk_44 (dk_at dksL_law_31 7 rfl rfl)
theorem dL_law_869 : decode cL_law 869 = .ok (.aload_n 0, 1) := dk_42 (dk_at dksL_law_31 8 rfl rfl)
theorem dL_law_870 : decode cL_law 870 = .ok (.iload_n 3, 1) := dk_29 (dk_at dksL_law_31 9 rfl rfl)
theorem dL_law_871 : decode cL_law 871 = .ok (.iconst 1, 1) := dk_4 (dk_at dksL_law_31 10 rfl rfl)
theorem dL_law_872 : decode cL_law 872 = .ok (.iadd, 1) := dk_96 (dk_at dksL_law_31 11 rfl rfl)
theorem dL_law_873 : decode cL_law 873 = .ok (.iaload, 1) := dk_46 (dk_at dksL_law_31 12 rfl rfl)
theorem dL_law_874 : decode cL_law 874 = .ok (.aload_n 0, 1) := dk_42 (dk_at dksL_law_31 13 rfl rfl)
theorem dL_law_875 : decode cL_law 875 = .ok (.iload_n 3, 1) := dk_29 (dk_at dksL_law_31 14 rfl rfl)
theorem dL_law_876 : decode cL_law 876 = .ok (.iconst 2, 1) := dk_5 (dk_at dksL_law_31 15 rfl rfl)
theorem dL_law_877 : decode cL_law 877 = .ok (.iadd, 1) := dk_96 (dk_at dksL_law_31 16 rfl rfl)
theorem dL_law_878 : decode cL_law 878 = .ok (.iaload, 1) := dk_46 (dk_at dksL_law_31 17 rfl rfl)
theorem dL_law_879 : decode cL_law 879 = .ok (.invokevirtual 109, 3) := dk_182 0 109 (dk_at dksL_law_31 18 rfl rfl)
theorem dL_law_882 : decode cL_law 882 = .ok (.if_icmp .eq 345, 3) := dk_159 1 89 (dk_at dksL_law_31 21 rfl rfl)
theorem dL_law_885 : decode cL_law 885 = .ok (.iconst 0, 1) := dk_3 (dk_at dksL_law_32 0 rfl rfl)
theorem dL_law_886 : decode cL_law 886 = .ok (.ireturn, 1) := dk_172 (dk_at dksL_law_32 1 rfl rfl)
theorem dL_law_887 : decode cL_law 887 = .ok (.aload_n 1, 1) := dk_43 (dk_at dksL_law_32 2 rfl rfl)
theorem dL_law_888 : decode cL_law 888 = .ok (.aload_n 0, 1) := dk_42 (dk_at dksL_law_32 3 rfl rfl)
theorem dL_law_889 : decode cL_law 889 = .ok (.iload_n 3, 1) := dk_29 (dk_at dksL_law_32 4 rfl rfl)
theorem dL_law_890 : decode cL_law 890 = .ok (.iconst 1, 1) := dk_4 (dk_at dksL_law_32 5 rfl rfl)
theorem dL_law_891 : decode cL_law 891 = .ok (.iadd, 1) := dk_96 (dk_at dksL_law_32 6 rfl rfl)
theorem dL_law_892 : decode cL_law 892 = .ok (.iaload, 1) := dk_46 (dk_at dksL_law_32 7 rfl rfl)
theorem dL_law_893 : decode cL_law 893 = .ok (.aload_n 0, 1) := dk_42 (dk_at dksL_law_32 8 rfl rfl)
theorem dL_law_894 : decode cL_law 894 = .ok (.iload_n 3, 1) := dk_29 (dk_at dksL_law_32 9 rfl rfl)
theorem dL_law_895 : decode cL_law 895 = .ok (.iconst 2, 1) := dk_5 (dk_at dksL_law_32 10 rfl rfl)
theorem dL_law_896 : decode cL_law 896 = .ok (.iadd, 1) := dk_96 (dk_at dksL_law_32 11 rfl rfl)
theorem dL_law_897 : decode cL_law 897 = .ok (.iaload, 1) := dk_46 (dk_at dksL_law_32 12 rfl rfl)
theorem dL_law_898 : decode cL_law 898 = .ok (.invokevirtual 110, 3) := dk_182 0 110 (dk_at dksL_law_32 13 rfl rfl)
theorem dL_law_901 : decode cL_law 901 = .ok (.aload_n 2, 1) := dk_44 (dk_at dksL_law_32 16 rfl rfl)
theorem dL_law_902 : decode cL_law 902 = .ok (.aload_n 0, 1) := dk_42 (dk_at dksL_law_32 17 rfl rfl)
theorem dL_law_903 : decode cL_law 903 = .ok (.iload_n 3, 1) := dk_29 (dk_at dksL_law_32 18 rfl rfl)
theorem dL_law_904 : decode cL_law 904 = .ok (.iconst 1, 1) := dk_4 (dk_at dksL_law_32 19 rfl rfl)
theorem dL_law_905 : decode cL_law 905 = .ok (.iadd, 1) := dk_96 (dk_at dksL_law_32 20 rfl rfl)
theorem dL_law_906 : decode cL_law 906 = .ok (.iaload, 1) := dk_46 (dk_at dksL_law_32 21 rfl rfl)
theorem dL_law_907 : decode cL_law 907 = .ok (.aload_n 0, 1) := dk_42 (dk_at dksL_law_32 22 rfl rfl)
theorem dL_law_908 : decode cL_law 908 = .ok (.iload_n 3, 1) := dk_29 (dk_at dksL_law_32 23 rfl rfl)
theorem dL_law_909 : decode cL_law 909 = .ok (.iconst 2, 1) := dk_5 (dk_at dksL_law_33 0 rfl rfl)
theorem dL_law_910 : decode cL_law 910 = .ok (.iadd, 1) := dk_96 (dk_at dksL_law_33 1 rfl rfl)
theorem dL_law_911 : decode cL_law 911 = .ok (.iaload, 1) := dk_46 (dk_at dksL_law_33 2 rfl rfl)
theorem dL_law_912 : decode cL_law 912 = .ok (.invokevirtual 113, 3) := dk_182 0 113 (dk_at dksL_law_33 3 rfl rfl)
theorem dL_law_915 : decode cL_law 915 = .ok (.if_icmp .eq 312, 3) := dk_159 1 56 (dk_at dksL_law_33 6 rfl rfl)
theorem dL_law_918 : decode cL_law 918 = .ok (.iconst 0, 1) := dk_3 (dk_at dksL_law_33 9 rfl rfl)
theorem dL_law_919 : decode cL_law 919 = .ok (.ireturn, 1) := dk_172 (dk_at dksL_law_33 10 rfl rfl)
theorem dL_law_920 : decode cL_law 920 = .ok (.aload_n 1, 1) := dk_43 (dk_at dksL_law_33 11 rfl rfl)
theorem dL_law_921 : decode cL_law 921 = .ok (.aload_n 0, 1) := dk_42 (dk_at dksL_law_33 12 rfl rfl)
theorem dL_law_922 : decode cL_law 922 = .ok (.iload_n 3, 1) := dk_29 (dk_at dksL_law_33 13 rfl rfl)
theorem dL_law_923 : decode cL_law 923 = .ok (.iconst 1, 1) := dk_4 (dk_at dksL_law_33 14 rfl rfl)
theorem dL_law_924 : decode cL_law 924 = .ok (.iadd, 1) := dk_96 (dk_at dksL_law_33 15 rfl rfl)
theorem dL_law_925 : decode cL_law 925 = .ok (.iaload, 1) := dk_46 (dk_at dksL_law_33 16 rfl rfl)
theorem dL_law_926 : decode cL_law 926 = .ok (.invokevirtual 114, 3) := dk_182 0 114 (dk_at dksL_law_33 17 rfl rfl)
theorem dL_law_929 : decode cL_law 929 = .ok (.aload_n 2, 1) := dk_44 (dk_at dksL_law_33 20 rfl rfl)
theorem dL_law_930 : decode cL_law 930 = .ok (.aload_n 0, 1) := dk_42 (dk_at dksL_law_33 21 rfl rfl)
theorem dL_law_931 : decode cL_law 931 = .ok (.iload_n 3, 1) := dk_29 (dk_at dksL_law_33 22 rfl rfl)
theorem dL_law_932 : decode cL_law 932 = .ok (.iconst 1, 1) := dk_4 (dk_at dksL_law_33 23 rfl rfl)
theorem dL_law_933 : decode cL_law 933 = .ok (.iadd, 1) := dk_96 (dk_at dksL_law_34 0 rfl rfl)
theorem dL_law_934 : decode cL_law 934 = .ok (.iaload, 1) := dk_46 (dk_at dksL_law_34 1 rfl rfl)
theorem dL_law_935 : decode cL_law 935 = .ok (.invokevirtual 117, 3) := dk_182 0 117 (dk_at dksL_law_34 2 rfl rfl)
theorem dL_law_938 : decode cL_law 938 = .ok (.if_icmp .eq 289, 3) := dk_159 1 33 (dk_at dksL_law_34 5 rfl rfl)
theorem dL_law_941 : decode cL_law 941 = .ok (.iconst 0, 1) := dk_3 (dk_at dksL_law_34 8 rfl rfl)
theorem dL_law_942 : decode cL_law 942 = .ok (.ireturn, 1) := dk_172 (dk_at dksL_law_34 9 rfl rfl)
theorem dL_law_943 : decode cL_law 943 = .ok (.aload_n 1, 1) := dk_43 (dk_at dksL_law_34 10 rfl rfl)
theorem dL_law_944 : decode cL_law 944 = .ok (.aload_n 0, 1) := dk_42 (dk_at dksL_law_34 11 rfl rfl)
theorem dL_law_945 : decode cL_law 945 = .ok (.iload_n 3, 1) := dk_29 (dk_at dksL_law_34 12 rfl rfl)
theorem dL_law_946 : decode cL_law 946 = .ok (.iconst 1, 1) := dk_4 (dk_at dksL_law_34 13 rfl rfl)
theorem dL_law_947 : decode cL_law 947 = .ok (.iadd, 1) := dk_96 (dk_at dksL_law_34 14 rfl rfl)
theorem dL_law_948 : decode cL_law 948 = .ok (.iaload, 1) := dk_46 (dk_at dksL_law_34 15 rfl rfl)
theorem dL_law_949 : decode cL_law 949 = .ok (.invokevirtual 118, 3) := dk_182 0 118 (dk_at dksL_law_34 16 rfl rfl)
theorem dL_law_952 : decode cL_law 952 = .ok (.aload_n 2, 1) := dk_44 (dk_at dksL_law_34 19 rfl rfl)
theorem dL_law_953 : decode cL_law 953 = .ok (.aload_n 0, 1) := dk_42 (dk_at dksL_law_34 20 rfl rfl)
theorem dL_law_954 : decode cL_law 954 = .ok (.iload_n 3, 1) := dk_29 (dk_at dksL_law_34 21 rfl rfl)
theorem dL_law_955 : decode cL_law 955 = .ok (.iconst 1, 1) := dk_4 (dk_at dksL_law_34 22 rfl rfl)
theorem dL_law_956 : decode cL_law 956 = .ok (.iadd, 1) := dk_96 (dk_at dksL_law_34 23 rfl rfl)
theorem dL_law_957 : decode cL_law 957 = .ok (.iaload, 1) := dk_46 (dk_at dksL_law_35 0 rfl rfl)
theorem dL_law_958 : decode cL_law 958 = .ok (.invokevirtual 121, 3) := dk_182 0 121 (dk_at dksL_law_35 1 rfl rfl)
theorem dL_law_961 : decode cL_law 961 = .ok (.if_icmp .eq 266, 3) := dk_159 1 10 (dk_at dksL_law_35 4 rfl rfl)
theorem dL_law_964 : decode cL_law 964 = .ok (.iconst 0, 1) := dk_3 (dk_at dksL_law_35 7 rfl rfl)
theorem dL_law_965 : decode cL_law 965 = .ok (.ireturn, 1) := dk_172 (dk_at dksL_law_35 8 rfl rfl)
theorem dL_law_966 : decode cL_law 966 = .ok (.aload_n 1, 1) := dk_43 (dk_at dksL_law_35 9 rfl rfl)
theorem dL_law_967 : decode cL_law 967 = .ok (.aload_n 0, 1) := dk_42 (dk_at dksL_law_35 10 rfl rfl)
theorem dL_law_968 : decode cL_law 968 = .ok (.iload_n 3, 1) := dk_29 (dk_at dksL_law_35 11 rfl rfl)
theorem dL_law_969 : decode cL_law 969 = .ok (.iconst 1, 1) := dk_4 (dk_at dksL_law_35 12 rfl rfl)
theorem dL_law_970 : decode cL_law 970 = .ok (.iadd, 1) := dk_96 (dk_at dksL_law_35 13 rfl rfl)
theorem dL_law_971 : decode cL_law 971 = .ok (.iaload, 1) := dk_46 (dk_at dksL_law_35 14 rfl rfl)
theorem dL_law_972 : decode cL_law 972 = .ok (.invokevirtual 122, 3) := dk_182 0 122 (dk_at dksL_law_35 15 rfl rfl)
theorem dL_law_975 : decode cL_law 975 = .ok (.aload_n 2, 1) := dk_44 (dk_at dksL_law_35 18 rfl rfl)
theorem dL_law_976 : decode cL_law 976 = .ok (.aload_n 0, 1) := dk_42 (dk_at dksL_law_35 19 rfl rfl)
theorem dL_law_977 : decode cL_law 977 = .ok (.iload_n 3, 1) := dk_29 (dk_at dksL_law_35 20 rfl rfl)
theorem dL_law_978 : decode cL_law 978 = .ok (.iconst 1, 1) := dk_4 (dk_at dksL_law_35 21 rfl rfl)
theorem dL_law_979 : decode cL_law 979 = .ok (.iadd, 1) := dk_96 (dk_at dksL_law_35 22 rfl rfl)
theorem dL_law_980 : decode cL_law 980 = .ok (.iaload, 1) := dk_46 (dk_at dksL_law_35 23 rfl rfl)
theorem dL_law_981 : decode cL_law 981 = .ok (.invokevirtual 125, 3) := dk_182 0 125 (dk_at dksL_law_36 0 rfl rfl)
theorem dL_law_984 : decode cL_law 984 = .ok (.if_icmp .eq 243, 3) := dk_159 0 243 (dk_at dksL_law_36 3 rfl rfl)
theorem dL_law_987 : decode cL_law 987 = .ok (.iconst 0, 1) := dk_3 (dk_at dksL_law_36 6 rfl rfl)
theorem dL_law_988 : decode cL_law 988 = .ok (.ireturn, 1) := dk_172 (dk_at dksL_law_36 7 rfl rfl)
theorem dL_law_989 : decode cL_law 989 = .ok (.aload_n 1, 1) := dk_43 (dk_at dksL_law_36 8 rfl rfl)
theorem dL_law_990 : decode cL_law 990 = .ok (.aload_n 0, 1) := dk_42 (dk_at dksL_law_36 9 rfl rfl)
theorem dL_law_991 : decode cL_law 991 = .ok (.iload_n 3, 1) := dk_29 (dk_at dksL_law_36 10 rfl rfl)
theorem dL_law_992 : decode cL_law 992 = .ok (.iconst 1, 1) := dk_4 (dk_at dksL_law_36 11 rfl rfl)
theorem dL_law_993 : decode cL_law 993 = .ok (.iadd, 1) := dk_96 (dk_at dksL_law_36 12 rfl rfl)
theorem dL_law_994 : decode cL_law 994 = .ok (.iaload, 1) := dk_46 (dk_at dksL_law_36 13 rfl rfl)
theorem dL_law_995 : decode cL_law 995 = .ok (.invokevirtual 126, 3) := dk_182 0 126 (dk_at dksL_law_36 14 rfl rfl)
theorem dL_law_998 : decode cL_law 998 = .ok (.aload_n 2, 1) := dk_44 (dk_at dksL_law_36 17 rfl rfl)
theorem dL_law_999 : decode cL_law 999 = .ok (.aload_n 0, 1) := dk_42 (dk_at dksL_law_36 18 rfl rfl)
theorem dL_law_1000 : decode cL_law 1000 = .ok (.iload_n 3, 1) := dk_29 (dk_at dksL_law_36 19 rfl rfl)
theorem dL_law_1001 : decode cL_law 1001 = .ok (.iconst 1, 1) := dk_4 (dk_at dksL_law_36 20 rfl rfl)
theorem dL_law_1002 : decode cL_law 1002 = .ok (.iadd, 1) := dk_96 (dk_at dksL_law_36 21 rfl rfl)
theorem dL_law_1003 : decode cL_law 1003 = .ok (.iaload, 1) := dk_46 (dk_at dksL_law_36 22 rfl rfl)
theorem dL_law_1004 : decode cL_law 1004 = .ok (.invokevirtual 129, 3) := dk_182 0 129 (dk_at dksL_law_37 0 rfl rfl)
theorem dL_law_1007 : decode cL_law 1007 = .ok (.if_icmp .eq 220, 3) := dk_159 0 220 (dk_at dksL_law_37 3 rfl rfl)
theorem dL_law_1010 : decode cL_law 1010 = .ok (.iconst 0, 1) := dk_3 (dk_at dksL_law_37 6 rfl rfl)
theorem dL_law_1011 : decode cL_law 1011 = .ok (.ireturn, 1) := dk_172 (dk_at dksL_law_37 7 rfl rfl)
theorem dL_law_1012 : decode cL_law 1012 = .ok (.aload_n 1, 1) := dk_43 (dk_at dksL_law_37 8 rfl rfl)
theorem dL_law_1013 : decode cL_law 1013 = .ok (.invokevirtual 130, 3) := dk_182 0 130 (dk_at dksL_law_37 9 rfl rfl)
theorem dL_law_1016 : decode cL_law 1016 = .ok (.aload_n 2, 1) := dk_44 (dk_at dksL_law_37 12 rfl rfl)
theorem dL_law_1017 : decode cL_law 1017 = .ok (.invokevirtual 133, 3) := dk_182 0 133 (dk_at dksL_law_37 13 rfl rfl)
theorem dL_law_1020 : decode cL_law 1020 = .ok (.if_icmp .eq 207, 3) := dk_159 0 207 (dk_at dksL_law_37 16 rfl rfl)
theorem dL_law_1023 : decode cL_law 1023 = .ok (.iconst 0, 1) := dk_3 (dk_at dksL_law_37 19 rfl rfl)
theorem dL_law_1024 : decode cL_law 1024 = .ok (.ireturn, 1) := dk_172 (dk_at dksL_law_37 20 rfl rfl)
theorem dL_law_1025 : decode cL_law 1025 = .ok (.aload_n 1, 1) := dk_43 (dk_at dksL_law_37 21 rfl rfl)
theorem dL_law_1026 : decode cL_law 1026 = .ok (.aload_n 0, 1) := dk_42 (dk_at dksL_law_37 22 rfl rfl)
theorem dL_law_1027 : decode cL_law 1027 = .ok (.iload_n 3, 1) := dk_29 (dk_at dksL_law_37 23 rfl rfl)
theorem dL_law_1028 : decode cL_law 1028 = .ok (.iconst 1, 1) := dk_4 (dk_at dksL_law_38 0 rfl rfl)
theorem dL_law_1029 : decode cL_law 1029 = .ok (.iadd, 1) := dk_96 (dk_at dksL_law_38 1 rfl rfl)
theorem dL_law_1030 : decode cL_law 1030 = .ok (.iaload, 1) := dk_46 (dk_at dksL_law_38 2 rfl rfl)
theorem dL_law_1031 : decode cL_law 1031 = .ok (.invokevirtual 134, 3) := dk_182 0 134 (dk_at dksL_law_38 3 rfl rfl)
theorem dL_law_1034 : decode cL_law 1034 = .ok (.f2d, 1) := dk_141 (dk_at dksL_law_38 6 rfl rfl)
theorem dL_law_1035 : decode cL_law 1035 = .ok (.dstore 4, 2) := dk_57 4 (dk_at dksL_law_38 7 rfl rfl)
theorem dL_law_1037 : decode cL_law 1037 = .ok (.aload_n 2, 1) := dk_44 (dk_at dksL_law_38 9 rfl rfl)
theorem dL_law_1038 : decode cL_law 1038 = .ok (.aload_n 0, 1) := dk_42 (dk_at dksL_law_38 10 rfl rfl)
theorem dL_law_1039 : decode cL_law 1039 = .ok (.iload_n 3, 1) := dk_29 (dk_at dksL_law_38 11 rfl rfl)
theorem dL_law_1040 : decode cL_law 1040 = .ok (.iconst 1, 1) := dk_4 (dk_at dksL_law_38 12 rfl rfl)
theorem dL_law_1041 : decode cL_law 1041 = .ok (.iadd, 1) := dk_96 (dk_at dksL_law_38 13 rfl rfl)
theorem dL_law_1042 : decode cL_law 1042 = .ok (.iaload, 1) := dk_46 (dk_at dksL_law_38 14 rfl rfl)
theorem dL_law_1043 : decode cL_law 1043 = .ok (.invokevirtual 138, 3) := dk_182 0 138 (dk_at dksL_law_38 15 rfl rfl)
theorem dL_law_1046 : decode cL_law 1046 = .ok (.f2d, 1) := dk_141 (dk_at dksL_law_38 18 rfl rfl)
theorem dL_law_1047 : decode cL_law 1047 = .ok (.dstore 6, 2) := dk_57 6 (dk_at dksL_law_38 19 rfl rfl)
theorem dL_law_1049 : decode cL_law 1049 = .ok (.dload 4, 2) := dk_24 4 (dk_at dksL_law_38 21 rfl rfl)
theorem dL_law_1051 : decode cL_law 1051 = .ok (.dload 6, 2) := dk_24 6 (dk_at dksL_law_39 0 rfl rfl)
theorem dL_law_1053 : decode cL_law 1053 = .ok (.dcmp .l, 1) := dk_151 (dk_at dksL_law_39 2 rfl rfl)
theorem dL_law_1054 : decode cL_law 1054 = .ok (.ifCond .eq 21, 3) := dk_153 0 21 (dk_at dksL_law_39 3 rfl rfl)
theorem dL_law_1057 : decode cL_law 1057 = .ok (.dload 4, 2) := dk_24 4 (dk_at dksL_law_39 6 rfl rfl)
theorem dL_law_1059 : decode cL_law 1059 = .ok (.dload 4, 2) := dk_24 4 (dk_at dksL_law_39 8 rfl rfl)
theorem dL_law_1061 : decode cL_law 1061 = .ok (.dcmp .l, 1) := dk_151 (dk_at dksL_law_39 10 rfl rfl)
theorem dL_law_1062 : decode cL_law 1062 = .ok (.ifCond .eq 11, 3) := dk_153 0 11 (dk_at dksL_law_39 11 rfl rfl)
theorem dL_law_1065 : decode cL_law 1065 = .ok (.dload 6, 2) := dk_24 6 (dk_at dksL_law_39 14 rfl rfl)
theorem dL_law_1067 : decode cL_law 1067 = .ok (.dload 6, 2) := dk_24 6 (dk_at dksL_law_39 16 rfl rfl)
theorem dL_law_1069 : decode cL_law 1069 = .ok (.dcmp .l, 1) := dk_151 (dk_at dksL_law_39 18 rfl rfl)
theorem dL_law_1070 : decode cL_law 1070 = .ok (.ifCond .ne 5, 3) := dk_154 0 5 (dk_at dksL_law_39 19 rfl rfl)
theorem dL_law_1073 : decode cL_law 1073 = .ok (.iconst 0, 1) := dk_3 (dk_at dksL_law_39 22 rfl rfl)
theorem dL_law_1074 : decode cL_law 1074 = .ok (.ireturn, 1) := dk_172 (dk_at dksL_law_39 23 rfl rfl)
theorem dL_law_1075 : decode cL_law 1075 = .ok (.goto 152, 3) := dk_167 0 152 (dk_at dksL_law_40 0 rfl rfl)
theorem dL_law_1078 : decode cL_law 1078 = .ok (.aload_n 1, 1) := dk_43 (dk_at dksL_law_40 3 rfl rfl)
theorem dL_law_1079 : decode cL_law 1079 = .ok (.invokevirtual 139, 3) := dk_182 0 139 (dk_at dksL_law_40 4 rfl rfl)
theorem dL_law_1082 : decode cL_law 1082 = .ok (.dstore 4, 2) := dk_57 4 (dk_at dksL_law_40 7 rfl rfl)
theorem dL_law_1084 : decode cL_law 1084 = .ok (.aload_n 2, 1) := dk_44 (dk_at dksL_law_40 9 rfl rfl)
theorem dL_law_1085 : decode cL_law 1085 = .ok (.invokevirtual 143, 3) := dk_182 0 143 (dk_at dksL_law_40 10 rfl rfl)
theorem dL_law_1088 : decode cL_law 1088 = .ok (.dstore 6, 2) := dk_57 6 (dk_at dksL_law_40 13 rfl rfl)
theorem dL_law_1090 : decode cL_law 1090 = .ok (.dload 4, 2) := dk_24 4 (dk_at dksL_law_40 15 rfl rfl)
theorem dL_law_1092 : decode cL_law 1092 = .ok (.dload 6, 2) := dk_24 6 (dk_at dksL_law_40 17 rfl rfl)
theorem dL_law_1094 : decode cL_law 1094 = .ok (.dcmp .l, 1) := dk_151 (dk_at dksL_law_40 19 rfl rfl)
theorem dL_law_1095 : decode cL_law 1095 = .ok (.ifCond .eq 21, 3) := dk_153 0 21 (dk_at dksL_law_40 20 rfl rfl)
theorem dL_law_1098 : decode cL_law 1098 = .ok (.dload 4, 2) := dk_24 4 (dk_at dksL_law_41 0 rfl rfl)
theorem dL_law_1100 : decode cL_law 1100 = .ok (.dload 4, 2) := dk_24 4 (dk_at dksL_law_41 2 rfl rfl)
theorem dL_law_1102 : decode cL_law 1102 = .ok (.dcmp .l, 1) := dk_151 (dk_at dksL_law_41 4 rfl rfl)
theorem dL_law_1103 : decode cL_law 1103 = .ok (.ifCond .eq 11, 3) := dk_153 0 11 (dk_at dksL_law_41 5 rfl rfl)
theorem dL_law_1106 : decode cL_law 1106 = .ok (.dload 6, 2) := dk_24 6 (dk_at dksL_law_41 8 rfl rfl)
theorem dL_law_1108 : decode cL_law 1108 = .ok (.dload 6, 2) := dk_24 6 (dk_at dksL_law_41 10 rfl rfl)
theorem dL_law_1110 : decode cL_law 1110 = .ok (.dcmp .l, 1) := dk_151 (dk_at dksL_law_41 12 rfl rfl)
theorem dL_law_1111 : decode cL_law 1111 = .ok (.ifCond .ne 5, 3) := dk_154 0 5 (dk_at dksL_law_41 13 rfl rfl)
theorem dL_law_1114 : decode cL_law 1114 = .ok (.iconst 0, 1) := dk_3 (dk_at dksL_law_41 16 rfl rfl)
theorem dL_law_1115 : decode cL_law 1115 = .ok (.ireturn, 1) := dk_172 (dk_at dksL_law_41 17 rfl rfl)
theorem dL_law_1116 : decode cL_law 1116 = .ok (.goto 111, 3) := dk_167 0 111 (dk_at dksL_law_41 18 rfl rfl)
theorem dL_law_1119 : decode cL_law 1119 = .ok (.aload_n 1, 1) := dk_43 (dk_at dksL_law_41 21 rfl rfl)
theorem dL_law_1120 : decode cL_law 1120 = .ok (.aload_n 0, 1) := dk_42 (dk_at dksL_law_41 22 rfl rfl)
theorem dL_law_1121 : decode cL_law 1121 = .ok (.iload_n 3, 1) := dk_29 (dk_at dksL_law_41 23 rfl rfl)
theorem dL_law_1122 : decode cL_law 1122 = .ok (.iconst 1, 1) := dk_4 (dk_at dksL_law_42 0 rfl rfl)
theorem dL_law_1123 : decode cL_law 1123 = .ok (.iadd, 1) := dk_96 (dk_at dksL_law_42 1 rfl rfl)
theorem dL_law_1124 : decode cL_law 1124 = .ok (.iaload, 1) := dk_46 (dk_at dksL_law_42 2 rfl rfl)
theorem dL_law_1125 : decode cL_law 1125 = .ok (.invokevirtual 144, 3) := dk_182 0 144 (dk_at dksL_law_42 3 rfl rfl)
theorem dL_law_1128 : decode cL_law 1128 = .ok (.aload_n 2, 1) := dk_44 (dk_at dksL_law_42 6 rfl rfl)
theorem dL_law_1129 : decode cL_law 1129 = .ok (.aload_n 0, 1) := dk_42 (dk_at dksL_law_42 7 rfl rfl)
theorem dL_law_1130 : decode cL_law 1130 = .ok (.iload_n 3, 1) := dk_29 (dk_at dksL_law_42 8 rfl rfl)
theorem dL_law_1131 : decode cL_law 1131 = .ok (.iconst 1, 1) := dk_4 (dk_at dksL_law_42 9 rfl rfl)
theorem dL_law_1132 : decode cL_law 1132 = .ok (.iadd, 1) := dk_96 (dk_at dksL_law_42 10 rfl rfl)
theorem dL_law_1133 : decode cL_law 1133 = .ok (.iaload, 1) := dk_46 (dk_at dksL_law_42 11 rfl rfl)
theorem dL_law_1134 : decode cL_law 1134 = .ok (.invokevirtual 147, 3) := dk_182 0 147 (dk_at dksL_law_42 12 rfl rfl)
theorem dL_law_1137 : decode cL_law 1137 = .ok (.if_icmp .eq 90, 3) := dk_159 0 90 (dk_at dksL_law_42 15 rfl rfl)
theorem dL_law_1140 : decode cL_law 1140 = .ok (.iconst 0, 1) := dk_3 (dk_at dksL_law_42 18 rfl rfl)
theorem dL_law_1141 : decode cL_law 1141 = .ok (.ireturn, 1) := dk_172 (dk_at dksL_law_42 19 rfl rfl)
theorem dL_law_1142 : decode cL_law 1142 = .ok (.aload_n 1, 1) := dk_43 (dk_at dksL_law_42 20 rfl rfl)
theorem dL_law_1143 : decode cL_law 1143 = .ok (.aload_n 0, 1) := dk_42 (dk_at dksL_law_42 21 rfl rfl)
theorem dL_law_1144 : decode cL_law 1144 = .ok (.iload_n 3, 1) := dk_29 (dk_at dksL_law_42 22 rfl rfl)
theorem dL_law_1145 : decode cL_law 1145 = .ok (.iconst 1, 1) := dk_4 (dk_at dksL_law_42 23 rfl rfl)
theorem dL_law_1146 : decode cL_law 1146 = .ok (.iadd, 1) := dk_96 (dk_at dksL_law_43 0 rfl rfl)
theorem dL_law_1147 : decode cL_law 1147 = .ok (.iaload, 1) := dk_46 (dk_at dksL_law_43 1 rfl rfl)
theorem dL_law_1148 : decode cL_law 1148 = .ok (.invokevirtual 148, 3) := dk_182 0 148 (dk_at dksL_law_43 2 rfl rfl)
theorem dL_law_1151 : decode cL_law 1151 = .ok (.aload_n 2, 1) := dk_44 (dk_at dksL_law_43 5 rfl rfl)
theorem dL_law_1152 : decode cL_law 1152 = .ok (.aload_n 0, 1) := dk_42 (dk_at dksL_law_43 6 rfl rfl)
theorem dL_law_1153 : decode cL_law 1153 = .ok (.iload_n 3, 1) := dk_29 (dk_at dksL_law_43 7 rfl rfl)
theorem dL_law_1154 : decode cL_law 1154 = .ok (.iconst 1, 1) := dk_4 (dk_at dksL_law_43 8 rfl rfl)
theorem dL_law_1155 : decode cL_law 1155 = .ok (.iadd, 1) := dk_96 (dk_at dksL_law_43 9 rfl rfl)
theorem dL_law_1156 : decode cL_law 1156 = .ok (.iaload, 1) := dk_46 (dk_at dksL_law_43 10 rfl rfl)
theorem dL_law_1157 : decode cL_law 1157 = .ok (.invokevirtual 151, 3) := dk_182 0 151 (dk_at dksL_law_43 11 rfl rfl)
theorem dL_law_1160 : decode cL_law 1160 = .ok (.if_icmp .eq 67, 3) := dk_159 0 67 (dk_at dksL_law_43 14 rfl rfl)
theorem dL_law_1163 : decode cL_law 1163 = .ok (.iconst 0, 1) := dk_3 (dk_at dksL_law_43 17 rfl rfl)
theorem dL_law_1164 : decode cL_law 1164 = .ok (.ireturn, 1) := dk_172 (dk_at dksL_law_43 18 rfl rfl)
theorem dL_law_1165 : decode cL_law 1165 = .ok (.aload_n 1, 1) := dk_43 (dk_at dksL_law_43 19 rfl rfl)
theorem dL_law_1166 : decode cL_law 1166 = .ok (.aload_n 0, 1) := dk_42 (dk_at dksL_law_43 20 rfl rfl)
theorem dL_law_1167 : decode cL_law 1167 = .ok (.iload_n 3, 1) := dk_29 (dk_at dksL_law_43 21 rfl rfl)
theorem dL_law_1168 : decode cL_law 1168 = .ok (.iconst 1, 1) := dk_4 (dk_at dksL_law_43 22 rfl rfl)
theorem dL_law_1169 : decode cL_law 1169 = .ok (.iadd, 1) := dk_96 (dk_at dksL_law_43 23 rfl rfl)
theorem dL_law_1170 : decode cL_law 1170 = .ok (.iaload, 1) := dk_46 (dk_at dksL_law_44 0 rfl rfl)
theorem dL_law_1171 : decode cL_law 1171 = .ok (.invokevirtual 152, 3) := dk_182 0 152 (dk_at dksL_law_44 1 rfl rfl)
theorem dL_law_1174 : decode cL_law 1174 = .ok (.aload_n 2, 1) := dk_44 (dk_at dksL_law_44 4 rfl rfl)
theorem dL_law_1175 : decode cL_law 1175 = .ok (.aload_n 0, 1) := dk_42 (dk_at dksL_law_44 5 rfl rfl)
theorem dL_law_1176 : decode cL_law 1176 = .ok (.iload_n 3, 1) := dk_29 (dk_at dksL_law_44 6 rfl rfl)
theorem dL_law_1177 : decode cL_law 1177 = .ok (.iconst 1, 1) := dk_4 (dk_at dksL_law_44 7 rfl rfl)
theorem dL_law_1178 : decode cL_law 1178 = .ok (.iadd, 1) := dk_96 (dk_at dksL_law_44 8 rfl rfl)
theorem dL_law_1179 : decode cL_law 1179 = .ok (.iaload, 1) := dk_46 (dk_at dksL_law_44 9 rfl rfl)
theorem dL_law_1180 : decode cL_law 1180 = .ok (.invokevirtual 155, 3) := dk_182 0 155 (dk_at dksL_law_44 10 rfl rfl)
theorem dL_law_1183 : decode cL_law 1183 = .ok (.if_icmp .eq 44, 3) := dk_159 0 44 (dk_at dksL_law_44 13 rfl rfl)
theorem dL_law_1186 : decode cL_law 1186 = .ok (.iconst 0, 1) := dk_3 (dk_at dksL_law_44 16 rfl rfl)
theorem dL_law_1187 : decode cL_law 1187 = .ok (.ireturn, 1) := dk_172 (dk_at dksL_law_44 17 rfl rfl)
theorem dL_law_1188 : decode cL_law 1188 = .ok (.aload_n 1, 1) := dk_43 (dk_at dksL_law_44 18 rfl rfl)
theorem dL_law_1189 : decode cL_law 1189 = .ok (.invokevirtual 156, 3) := dk_182 0 156 (dk_at dksL_law_44 19 rfl rfl)
theorem dL_law_1192 : decode cL_law 1192 = .ok (.aload_n 2, 1) := dk_44 (dk_at dksL_law_44 22 rfl rfl)
theorem dL_law_1193 : decode cL_law 1193 = .ok (.invokevirtual 159, 3) := dk_182 0 159 (dk_at dksL_law_45 0 rfl rfl)
theorem dL_law_1196 : decode cL_law 1196 = .ok (.if_icmp .eq 31, 3) := dk_159 0 31 (dk_at dksL_law_45 3 rfl rfl)
theorem dL_law_1199 : decode cL_law 1199 = .ok (.iconst 0, 1) := dk_3 (dk_at dksL_law_45 6 rfl rfl)
theorem dL_law_1200 : decode cL_law 1200 = .ok (.ireturn, 1) := dk_172 (dk_at dksL_law_45 7 rfl rfl)
theorem dL_law_1201 : decode cL_law 1201 = .ok (.aload_n 1, 1) := dk_43 (dk_at dksL_law_45 8 rfl rfl)
theorem dL_law_1202 : decode cL_law 1202 = .ok (.invokevirtual 160, 3) := dk_182 0 160 (dk_at dksL_law_45 9 rfl rfl)
theorem dL_law_1205 : decode cL_law 1205 = .ok (.aload_n 2, 1) := dk_44 (dk_at dksL_law_45 12 rfl rfl)
theorem dL_law_1206 : decode cL_law 1206 = .ok (.invokevirtual 163, 3) := dk_182 0 163 (dk_at dksL_law_45 13 rfl rfl)
theorem dL_law_1209 : decode cL_law 1209 = .ok (.if_icmp .eq 18, 3) := dk_159 0 18 (dk_at dksL_law_45 16 rfl rfl)
theorem dL_law_1212 : decode cL_law 1212 = .ok (.iconst 0, 1) := dk_3 (dk_at dksL_law_45 19 rfl rfl)
theorem dL_law_1213 : decode cL_law 1213 = .ok (.ireturn, 1) := dk_172 (dk_at dksL_law_45 20 rfl rfl)
theorem dL_law_1214 : decode cL_law 1214 = .ok (.aload_n 1, 1) := dk_43 (dk_at dksL_law_45 21 rfl rfl)
theorem dL_law_1215 : decode cL_law 1215 = .ok (.invokevirtual 164, 3) := dk_182 0 164 (dk_at dksL_law_46 0 rfl rfl)
theorem dL_law_1218 : decode cL_law 1218 = .ok (.aload_n 2, 1) := dk_44 (dk_at dksL_law_46 3 rfl rfl)
theorem dL_law_1219 : decode cL_law 1219 = .ok (.invokevirtual 167, 3) := dk_182 0 167 (dk_at dksL_law_46 4 rfl rfl)
theorem dL_law_1222 : decode cL_law 1222 = .ok (.if_icmp .eq 5, 3) := dk_159 0 5 (dk_at dksL_law_46 7 rfl rfl)
theorem dL_law_1225 : decode cL_law 1225 = .ok (.iconst 0, 1) := dk_3 (dk_at dksL_law_46 10 rfl rfl)
theorem dL_law_1226 : decode cL_law 1226 = .ok (.ireturn, 1) := dk_172 (dk_at dksL_law_46 11 rfl rfl)
theorem dL_law_1227 : decode cL_law 1227 = .ok (.iinc 3 4, 3) := dk_132 3 4 (dk_at dksL_law_46 12 rfl rfl)
theorem dL_law_1230 : decode cL_law 1230 = .ok (.goto (-1212), 3) := dk_167 251 68 (dk_at dksL_law_46 15 rfl rfl)
theorem dL_law_1233 : decode cL_law 1233 = .ok (.iconst 1, 1) := dk_4 (dk_at dksL_law_46 18 rfl rfl)
theorem dL_law_1234 : decode cL_law 1234 = .ok (.ireturn, 1) := dk_172 (dk_at dksL_law_46 19 rfl rfl)
theorem cw_L_17 {R : Room} {s : State} {m : MethodId} {p : Program} {c : Code} {cc : ByteArray} {nL : Nat} {args : Array Value} {D : tD} (CF : CallFix p m c cc nL s args lw_all RL) (hK : th_K D s) (hR : rm_X8_clear.frames + 1 ≤ R.frames ∧ 8 + (2 + 11) + rm_X8_clear.locals ≤ R.locals) : CallW R s args RL RX8 17 yX8_clear cX8_clear 2 ((Option.some Jvm.ClassFile.FieldType.int)) (ws_ yX8_clear cX8_clear 2 ((Option.some Jvm.ClassFile.FieldType.int))) rm_X8_clear 0 0 0 :=
  cwV 0 CF.2.2.2.2 (lw_V q1501 q1502 q1503 q117 q1504) rfl rfl rfl ⟨rfl, by decide +kernel, by decide +kernel, by decide +kernel⟩ hR
theorem cw_L_13 {R : Room} {s : State} {m : MethodId} {p : Program} {c : Code} {cc : ByteArray} {nL : Nat} {args : Array Value} {D : tD} (CF : CallFix p m c cc nL s args lw_all RL) (hK : th_K D s) (hR : rm_X0_clear.frames + 1 ≤ R.frames ∧ 8 + (2 + 11) + rm_X0_clear.locals ≤ R.locals) : CallW R s args RL RX0 13 yX0_clear cX0_clear 2 ((Option.some Jvm.ClassFile.FieldType.int)) (ws_ yX0_clear cX0_clear 2 ((Option.some Jvm.ClassFile.FieldType.int))) rm_X0_clear 0 0 0 :=
  cwV 0 CF.2.2.2.2 (lw_V q438 q439 q440 q105 q441) rfl rfl rfl ⟨rfl, by decide +kernel, by decide +kernel, by decide +kernel⟩ hR
theorem cw_L_22 {R : Room} {s : State} {m : MethodId} {p : Program} {c : Code} {cc : ByteArray} {nL : Nat} {args : Array Value} {D : tD} (CF : CallFix p m c cc nL s args lw_all RL) (hK : th_K D s) (hR : rm_X8_append.frames + 1 ≤ R.frames ∧ 8 + (2 + 11) + rm_X8_append.locals ≤ R.locals) : CallW R s args RL RX8 22 yX8_append cX8_append 2 ((Option.some Jvm.ClassFile.FieldType.int)) (ws_ yX8_append cX8_append 2 ((Option.some Jvm.ClassFile.FieldType.int))) rm_X8_append 0 0 1 :=
  cwV 1 CF.2.2.2.2 (lw_V q1505 q1506 q1507 q117 q1508) rfl rfl rfl ⟨rfl, by decide +kernel, by decide +kernel, by decide +kernel⟩ hR
theorem cw_L_18 {R : Room} {s : State} {m : MethodId} {p : Program} {c : Code} {cc : ByteArray} {nL : Nat} {args : Array Value} {D : tD} (CF : CallFix p m c cc nL s args lw_all RL) (hK : th_K D s) (hR : rm_X0_append.frames + 1 ≤ R.frames ∧ 8 + (2 + 11) + rm_X0_append.locals ≤ R.locals) : CallW R s args RL RX0 18 yX0_append cX0_append 2 ((Option.some Jvm.ClassFile.FieldType.int)) (ws_ yX0_append cX0_append 2 ((Option.some Jvm.ClassFile.FieldType.int))) rm_X0_append 0 0 1 :=
  cwV 1 CF.2.2.2.2 (lw_V q792 q793 q794 q105 q795) rfl rfl rfl ⟨rfl, by decide +kernel, by decide +kernel, by decide +kernel⟩ hR
theorem cw_L_27 {R : Room} {s : State} {m : MethodId} {p : Program} {c : Code} {cc : ByteArray} {nL : Nat} {args : Array Value} {D : tD} (CF : CallFix p m c cc nL s args lw_all RL) (hK : th_K D s) (hR : rm_X8_parish.frames + 1 ≤ R.frames ∧ 8 + (3 + 11) + rm_X8_parish.locals ≤ R.locals) : CallW R s args RL RX8 27 yX8_parish cX8_parish 3 ((Option.some Jvm.ClassFile.FieldType.int)) (ws_ yX8_parish cX8_parish 3 ((Option.some Jvm.ClassFile.FieldType.int))) rm_X8_parish 0 0 1 :=
  cwV 1 CF.2.2.2.2 (lw_V q1531 q1532 q1533 q117 q1534) rfl rfl rfl ⟨rfl, by decide +kernel, by decide +kernel, by decide +kernel⟩ hR
theorem cw_L_23 {R : Room} {s : State} {m : MethodId} {p : Program} {c : Code} {cc : ByteArray} {nL : Nat} {args : Array Value} {D : tD} (CF : CallFix p m c cc nL s args lw_all RL) (hK : th_K D s) (hR : rm_X0_parish.frames + 1 ≤ R.frames ∧ 8 + (3 + 11) + rm_X0_parish.locals ≤ R.locals) : vz_CVW R s args RL RX0 23 yX0_parish cX0_parish 3 ((Option.some Jvm.ClassFile.FieldType.int)) [((4 : Nat), (13 : Nat), (14 : Nat), (3 : Nat)), ((4 : Nat), (13 : Nat), (14 : Nat), (9 : Nat))] (wsW_ yX0_parish cX0_parish 3 ((Option.some Jvm.ClassFile.FieldType.int)) [((4 : Nat), (13 : Nat), (14 : Nat), (3 : Nat)), ((4 : Nat), (13 : Nat), (14 : Nat), (9 : Nat))]) rm_X0_parish 2 15 1 :=
  vz_cwVW 1 CF.2.2.2.2 (lw_VW q462 q463 q464 q105 q465) rfl rfl rfl ⟨rfl, by decide +kernel, by decide +kernel, by decide +kernel⟩ hR
theorem cw_L_32 {R : Room} {s : State} {m : MethodId} {p : Program} {c : Code} {cc : ByteArray} {nL : Nat} {args : Array Value} {D : tD} (CF : CallFix p m c cc nL s args lw_all RL) (hK : th_K D s) (hR : rm_X8_harvest.frames + 1 ≤ R.frames ∧ 8 + (3 + 11) + rm_X8_harvest.locals ≤ R.locals) : CallW R s args RL RX8 32 yX8_harvest cX8_harvest 3 ((Option.some Jvm.ClassFile.FieldType.int)) (ws_ yX8_harvest cX8_harvest 3 ((Option.some Jvm.ClassFile.FieldType.int))) rm_X8_harvest 0 0 2 :=
  cwV 2 CF.2.2.2.2 (lw_V q1562 q1563 q1564 q117 q1565) rfl rfl rfl ⟨rfl, by decide +kernel, by decide +kernel, by decide +kernel⟩ hR
theorem cw_L_28 {R : Room} {s : State} {m : MethodId} {p : Program} {c : Code} {cc : ByteArray} {nL : Nat} {args : Array Value} {D : tD} (CF : CallFix p m c cc nL s args lw_all RL) (hK : th_K D s) (hR : rm_X0_harvest.frames + 1 ≤ R.frames ∧ 8 + (4 + 11) + rm_X0_harvest.locals ≤ R.locals) : vz_CVW R s args RL RX0 28 yX0_harvest cX0_harvest 4 ((Option.some Jvm.ClassFile.FieldType.int)) [((4 : Nat), (14 : Nat), (15 : Nat), (3 : Nat))] (wsW_ yX0_harvest cX0_harvest 4 ((Option.some Jvm.ClassFile.FieldType.int)) [((4 : Nat), (14 : Nat), (15 : Nat), (3 : Nat))]) rm_X0_harvest 2 14 2 :=
  vz_cwVW 2 CF.2.2.2.2 (lw_VW q622 q623 q624 q105 q625) rfl rfl rfl ⟨rfl, by decide +kernel, by decide +kernel, by decide +kernel⟩ hR
theorem cw_L_37 {R : Room} {s : State} {m : MethodId} {p : Program} {c : Code} {cc : ByteArray} {nL : Nat} {args : Array Value} {D : tD} (CF : CallFix p m c cc nL s args lw_all RL) (hK : th_K D s) (hR : rm_X8_cart.frames + 1 ≤ R.frames ∧ 8 + (4 + 11) + rm_X8_cart.locals ≤ R.locals) : CallW R s args RL RX8 37 yX8_cart cX8_cart 4 ((Option.some Jvm.ClassFile.FieldType.int)) (ws_ yX8_cart cX8_cart 4 ((Option.some Jvm.ClassFile.FieldType.int))) rm_X8_cart 0 0 3 :=
  cwV 3 CF.2.2.2.2 (lw_V q1591 q1592 q1593 q117 q1594) rfl rfl rfl ⟨rfl, by decide +kernel, by decide +kernel, by decide +kernel⟩ hR
theorem cw_L_33 {R : Room} {s : State} {m : MethodId} {p : Program} {c : Code} {cc : ByteArray} {nL : Nat} {args : Array Value} {D : tD} (CF : CallFix p m c cc nL s args lw_all RL) (hK : th_K D s) (hR : rm_X0_cart.frames + 1 ≤ R.frames ∧ 8 + (5 + 11) + rm_X0_cart.locals ≤ R.locals) : vz_CVW R s args RL RX0 33 yX0_cart cX0_cart 5 ((Option.some Jvm.ClassFile.FieldType.int)) [((4 : Nat), (15 : Nat), (16 : Nat), (3 : Nat)), ((4 : Nat), (15 : Nat), (16 : Nat), (9 : Nat))] (wsW_ yX0_cart cX0_cart 5 ((Option.some Jvm.ClassFile.FieldType.int)) [((4 : Nat), (15 : Nat), (16 : Nat), (3 : Nat)), ((4 : Nat), (15 : Nat), (16 : Nat), (9 : Nat))]) rm_X0_cart 5 32 3 :=
  vz_cwVW 3 CF.2.2.2.2 (lw_VW q642 q643 q644 q105 q645) rfl rfl rfl ⟨rfl, by decide +kernel, by decide +kernel, by decide +kernel⟩ hR
theorem cw_L_41 {R : Room} {s : State} {m : MethodId} {p : Program} {c : Code} {cc : ByteArray} {nL : Nat} {args : Array Value} {D : tD} (CF : CallFix p m c cc nL s args lw_all RL) (hK : th_K D s) (hR : rm_X8_thresh.frames + 1 ≤ R.frames ∧ 8 + (4 + 11) + rm_X8_thresh.locals ≤ R.locals) : CallW R s args RL RX8 41 yX8_thresh cX8_thresh 4 ((Option.some Jvm.ClassFile.FieldType.int)) (ws_ yX8_thresh cX8_thresh 4 ((Option.some Jvm.ClassFile.FieldType.int))) rm_X8_thresh 0 0 3 :=
  cwV 3 CF.2.2.2.2 (lw_V q1653 q1654 q1655 q117 q1656) rfl rfl rfl ⟨rfl, by decide +kernel, by decide +kernel, by decide +kernel⟩ hR
theorem cw_L_38 {R : Room} {s : State} {m : MethodId} {p : Program} {c : Code} {cc : ByteArray} {nL : Nat} {args : Array Value} {D : tD} (CF : CallFix p m c cc nL s args lw_all RL) (hK : th_K D s) (hR : rm_X0_thresh.frames + 1 ≤ R.frames ∧ 8 + (5 + 11) + rm_X0_thresh.locals ≤ R.locals) : vz_CVW R s args RL RX0 38 yX0_thresh cX0_thresh 5 ((Option.some Jvm.ClassFile.FieldType.int)) [((4 : Nat), (15 : Nat), (16 : Nat), (3 : Nat)), ((4 : Nat), (15 : Nat), (16 : Nat), (9 : Nat))] (wsW_ yX0_thresh cX0_thresh 5 ((Option.some Jvm.ClassFile.FieldType.int)) [((4 : Nat), (15 : Nat), (16 : Nat), (3 : Nat)), ((4 : Nat), (15 : Nat), (16 : Nat), (9 : Nat))]) rm_X0_thresh 7 48 3 :=
  vz_cwVW 3 CF.2.2.2.2 (lw_VW q677 q678 q679 q105 q680) rfl rfl rfl ⟨rfl, by decide +kernel, by decide +kernel, by decide +kernel⟩ hR
theorem cw_L_45 {R : Room} {s : State} {m : MethodId} {p : Program} {c : Code} {cc : ByteArray} {nL : Nat} {args : Array Value} {D : tD} (CF : CallFix p m c cc nL s args lw_all RL) (hK : th_K D s) (hR : rm_X8_flails.frames + 1 ≤ R.frames ∧ 8 + (3 + 11) + rm_X8_flails.locals ≤ R.locals) : CallW R s args RL RX8 45 yX8_flails cX8_flails 3 ((Option.some Jvm.ClassFile.FieldType.int)) (ws_ yX8_flails cX8_flails 3 ((Option.some Jvm.ClassFile.FieldType.int))) rm_X8_flails 0 0 2 :=
  cwV 2 CF.2.2.2.2 (lw_V q1676 q1677 q1678 q117 q1679) rfl rfl rfl ⟨rfl, by decide +kernel, by decide +kernel, by decide +kernel⟩ hR
theorem cw_L_42 {R : Room} {s : State} {m : MethodId} {p : Program} {c : Code} {cc : ByteArray} {nL : Nat} {args : Array Value} {D : tD} (CF : CallFix p m c cc nL s args lw_all RL) (hK : th_K D s) (hR : rm_X0_flails.frames + 1 ≤ R.frames ∧ 8 + (4 + 11) + rm_X0_flails.locals ≤ R.locals) : vz_CVW R s args RL RX0 42 yX0_flails cX0_flails 4 ((Option.some Jvm.ClassFile.FieldType.int)) [((4 : Nat), (14 : Nat), (15 : Nat), (3 : Nat))] (wsW_ yX0_flails cX0_flails 4 ((Option.some Jvm.ClassFile.FieldType.int)) [((4 : Nat), (14 : Nat), (15 : Nat), (3 : Nat))]) rm_X0_flails 2 14 2 :=
  vz_cwVW 2 CF.2.2.2.2 (lw_VW q700 q701 q702 q105 q703) rfl rfl rfl ⟨rfl, by decide +kernel, by decide +kernel, by decide +kernel⟩ hR
theorem cw_L_49 {R : Room} {s : State} {m : MethodId} {p : Program} {c : Code} {cc : ByteArray} {nL : Nat} {args : Array Value} {D : tD} (CF : CallFix p m c cc nL s args lw_all RL) (hK : th_K D s) (hR : rm_X8_price.frames + 1 ≤ R.frames ∧ 8 + (3 + 11) + rm_X8_price.locals ≤ R.locals) : CallW R s args RL RX8 49 yX8_price cX8_price 3 ((Option.some Jvm.ClassFile.FieldType.int)) (ws_ yX8_price cX8_price 3 ((Option.some Jvm.ClassFile.FieldType.int))) rm_X8_price 0 0 2 :=
  cwV 2 CF.2.2.2.2 (lw_V q1684 q1685 q1686 q117 q1687) rfl rfl rfl ⟨rfl, by decide +kernel, by decide +kernel, by decide +kernel⟩ hR
theorem cw_L_46 {R : Room} {s : State} {m : MethodId} {p : Program} {c : Code} {cc : ByteArray} {nL : Nat} {args : Array Value} {D : tD} (CF : CallFix p m c cc nL s args lw_all RL) (hK : th_K D s) (hR : rm_X0_price.frames + 1 ≤ R.frames ∧ 8 + (4 + 11) + rm_X0_price.locals ≤ R.locals) : vz_CVW R s args RL RX0 46 yX0_price cX0_price 4 ((Option.some Jvm.ClassFile.FieldType.int)) [((4 : Nat), (14 : Nat), (15 : Nat), (3 : Nat))] (wsW_ yX0_price cX0_price 4 ((Option.some Jvm.ClassFile.FieldType.int)) [((4 : Nat), (14 : Nat), (15 : Nat), (3 : Nat))]) rm_X0_price 2 14 2 :=
  vz_cwVW 2 CF.2.2.2.2 (lw_VW q708 q709 q710 q105 q711) rfl rfl rfl ⟨rfl, by decide +kernel, by decide +kernel, by decide +kernel⟩ hR
theorem cw_L_53 {R : Room} {s : State} {m : MethodId} {p : Program} {c : Code} {cc : ByteArray} {nL : Nat} {args : Array Value} {D : tD} (CF : CallFix p m c cc nL s args lw_all RL) (hK : th_K D s) (hR : rm_X8_sell.frames + 1 ≤ R.frames ∧ 8 + (4 + 11) + rm_X8_sell.locals ≤ R.locals) : CallW R s args RL RX8 53 yX8_sell cX8_sell 4 ((Option.some Jvm.ClassFile.FieldType.int)) (ws_ yX8_sell cX8_sell 4 ((Option.some Jvm.ClassFile.FieldType.int))) rm_X8_sell 0 0 3 :=
  cwV 3 CF.2.2.2.2 (lw_V q1700 q1701 q1702 q117 q1703) rfl rfl rfl ⟨rfl, by decide +kernel, by decide +kernel, by decide +kernel⟩ hR
theorem cw_L_50 {R : Room} {s : State} {m : MethodId} {p : Program} {c : Code} {cc : ByteArray} {nL : Nat} {args : Array Value} {D : tD} (CF : CallFix p m c cc nL s args lw_all RL) (hK : th_K D s) (hR : rm_X0_sell.frames + 1 ≤ R.frames ∧ 8 + (5 + 11) + rm_X0_sell.locals ≤ R.locals) : vz_CVW R s args RL RX0 50 yX0_sell cX0_sell 5 ((Option.some Jvm.ClassFile.FieldType.int)) [((4 : Nat), (15 : Nat), (16 : Nat), (3 : Nat)), ((4 : Nat), (15 : Nat), (16 : Nat), (9 : Nat))] (wsW_ yX0_sell cX0_sell 5 ((Option.some Jvm.ClassFile.FieldType.int)) [((4 : Nat), (15 : Nat), (16 : Nat), (3 : Nat)), ((4 : Nat), (15 : Nat), (16 : Nat), (9 : Nat))]) rm_X0_sell 5 32 3 :=
  vz_cwVW 3 CF.2.2.2.2 (lw_VW q716 q717 q718 q105 q719) rfl rfl rfl ⟨rfl, by decide +kernel, by decide +kernel, by decide +kernel⟩ hR
theorem cw_L_57 {R : Room} {s : State} {m : MethodId} {p : Program} {c : Code} {cc : ByteArray} {nL : Nat} {args : Array Value} {D : tD} (CF : CallFix p m c cc nL s args lw_all RL) (hK : th_K D s) (hR : rm_X8_settle.frames + 1 ≤ R.frames ∧ 8 + (3 + 11) + rm_X8_settle.locals ≤ R.locals) : CallW R s args RL RX8 57 yX8_settle cX8_settle 3 ((Option.some Jvm.ClassFile.FieldType.int)) (ws_ yX8_settle cX8_settle 3 ((Option.some Jvm.ClassFile.FieldType.int))) rm_X8_settle 0 0 2 :=
  cwV 2 CF.2.2.2.2 (lw_V q1712 q1713 q1714 q117 q1715) rfl rfl rfl ⟨rfl, by decide +kernel, by decide +kernel, by decide +kernel⟩ hR
theorem cw_L_54 {R : Room} {s : State} {m : MethodId} {p : Program} {c : Code} {cc : ByteArray} {nL : Nat} {args : Array Value} {D : tD} (CF : CallFix p m c cc nL s args lw_all RL) (hK : th_K D s) (hR : rm_X0_settle.frames + 1 ≤ R.frames ∧ 8 + (4 + 11) + rm_X0_settle.locals ≤ R.locals) : vz_CVW R s args RL RX0 54 yX0_settle cX0_settle 4 ((Option.some Jvm.ClassFile.FieldType.int)) [((4 : Nat), (14 : Nat), (15 : Nat), (3 : Nat)), ((4 : Nat), (14 : Nat), (15 : Nat), (9 : Nat))] (wsW_ yX0_settle cX0_settle 4 ((Option.some Jvm.ClassFile.FieldType.int)) [((4 : Nat), (14 : Nat), (15 : Nat), (3 : Nat)), ((4 : Nat), (14 : Nat), (15 : Nat), (9 : Nat))]) rm_X0_settle 4 24 2 :=
  vz_cwVW 2 CF.2.2.2.2 (lw_VW q724 q725 q726 q105 q727) rfl rfl rfl ⟨rfl, by decide +kernel, by decide +kernel, by decide +kernel⟩ hR
theorem cw_L_61 {R : Room} {s : State} {m : MethodId} {p : Program} {c : Code} {cc : ByteArray} {nL : Nat} {args : Array Value} {D : tD} (CF : CallFix p m c cc nL s args lw_all RL) (hK : th_K D s) (hR : rm_X8_stop.frames + 1 ≤ R.frames ∧ 8 + (2 + 11) + rm_X8_stop.locals ≤ R.locals) : CallW R s args RL RX8 61 yX8_stop cX8_stop 2 ((Option.some Jvm.ClassFile.FieldType.int)) (ws_ yX8_stop cX8_stop 2 ((Option.some Jvm.ClassFile.FieldType.int))) rm_X8_stop 0 0 1 :=
  cwV 1 CF.2.2.2.2 (lw_V q1720 q1721 q1722 q117 q1723) rfl rfl rfl ⟨rfl, by decide +kernel, by decide +kernel, by decide +kernel⟩ hR
theorem cw_L_58 {R : Room} {s : State} {m : MethodId} {p : Program} {c : Code} {cc : ByteArray} {nL : Nat} {args : Array Value} {D : tD} (CF : CallFix p m c cc nL s args lw_all RL) (hK : th_K D s) (hR : rm_X0_stop.frames + 1 ≤ R.frames ∧ 8 + (3 + 11) + rm_X0_stop.locals ≤ R.locals) : vz_CVW R s args RL RX0 58 yX0_stop cX0_stop 3 ((Option.some Jvm.ClassFile.FieldType.int)) [((4 : Nat), (13 : Nat), (14 : Nat), (3 : Nat)), ((4 : Nat), (13 : Nat), (14 : Nat), (9 : Nat))] (wsW_ yX0_stop cX0_stop 3 ((Option.some Jvm.ClassFile.FieldType.int)) [((4 : Nat), (13 : Nat), (14 : Nat), (3 : Nat)), ((4 : Nat), (13 : Nat), (14 : Nat), (9 : Nat))]) rm_X0_stop 2 15 1 :=
  vz_cwVW 1 CF.2.2.2.2 (lw_VW q732 q733 q734 q105 q735) rfl rfl rfl ⟨rfl, by decide +kernel, by decide +kernel, by decide +kernel⟩ hR
theorem cw_L_65 {R : Room} {s : State} {m : MethodId} {p : Program} {c : Code} {cc : ByteArray} {nL : Nat} {args : Array Value} {D : tD} (CF : CallFix p m c cc nL s args lw_all RL) (hK : th_K D s) (hR : rm_X8_cat.frames + 1 ≤ R.frames ∧ 8 + (2 + 11) + rm_X8_cat.locals ≤ R.locals) : CallW R s args RL RX8 65 yX8_cat cX8_cat 2 ((Option.some Jvm.ClassFile.FieldType.int)) (ws_ yX8_cat cX8_cat 2 ((Option.some Jvm.ClassFile.FieldType.int))) rm_X8_cat 0 0 1 :=
  cwV 1 CF.2.2.2.2 (lw_V q1731 q1732 q1733 q117 q1734) rfl rfl rfl ⟨rfl, by decide +kernel, by decide +kernel, by decide +kernel⟩ hR
theorem cw_L_62 {R : Room} {s : State} {m : MethodId} {p : Program} {c : Code} {cc : ByteArray} {nL : Nat} {args : Array Value} {D : tD} (CF : CallFix p m c cc nL s args lw_all RL) (hK : th_K D s) (hR : rm_X0_cat.frames + 1 ≤ R.frames ∧ 8 + (3 + 11) + rm_X0_cat.locals ≤ R.locals) : vz_CVW R s args RL RX0 62 yX0_cat cX0_cat 3 ((Option.some Jvm.ClassFile.FieldType.int)) [((4 : Nat), (13 : Nat), (14 : Nat), (3 : Nat))] (wsW_ yX0_cat cX0_cat 3 ((Option.some Jvm.ClassFile.FieldType.int)) [((4 : Nat), (13 : Nat), (14 : Nat), (3 : Nat))]) rm_X0_cat 1 7 1 :=
  vz_cwVW 1 CF.2.2.2.2 (lw_VW q743 q744 q745 q105 q746) rfl rfl rfl ⟨rfl, by decide +kernel, by decide +kernel, by decide +kernel⟩ hR
theorem cw_L_69 {R : Room} {s : State} {m : MethodId} {p : Program} {c : Code} {cc : ByteArray} {nL : Nat} {args : Array Value} {D : tD} (CF : CallFix p m c cc nL s args lw_all RL) (hK : th_K D s) (hR : rm_X8_pass.frames + 1 ≤ R.frames ∧ 8 + (2 + 11) + rm_X8_pass.locals ≤ R.locals) : CallW R s args RL RX8 69 yX8_pass cX8_pass 2 ((Option.some Jvm.ClassFile.FieldType.int)) (ws_ yX8_pass cX8_pass 2 ((Option.some Jvm.ClassFile.FieldType.int))) rm_X8_pass 0 0 1 :=
  cwV 1 CF.2.2.2.2 (lw_V q1743 q1744 q1745 q117 q1746) rfl rfl rfl ⟨rfl, by decide +kernel, by decide +kernel, by decide +kernel⟩ hR
theorem cw_L_66 {R : Room} {s : State} {m : MethodId} {p : Program} {c : Code} {cc : ByteArray} {nL : Nat} {args : Array Value} {D : tD} (CF : CallFix p m c cc nL s args lw_all RL) (hK : th_K D s) (hR : rm_X0_pass.frames + 1 ≤ R.frames ∧ 8 + (3 + 11) + rm_X0_pass.locals ≤ R.locals) : vz_CVW R s args RL RX0 66 yX0_pass cX0_pass 3 ((Option.some Jvm.ClassFile.FieldType.int)) [((4 : Nat), (13 : Nat), (14 : Nat), (3 : Nat))] (wsW_ yX0_pass cX0_pass 3 ((Option.some Jvm.ClassFile.FieldType.int)) [((4 : Nat), (13 : Nat), (14 : Nat), (3 : Nat))]) rm_X0_pass 1 7 1 :=
  vz_cwVW 1 CF.2.2.2.2 (lw_VW q751 q752 q753 q105 q754) rfl rfl rfl ⟨rfl, by decide +kernel, by decide +kernel, by decide +kernel⟩ hR
theorem cw_L_73 {R : Room} {s : State} {m : MethodId} {p : Program} {c : Code} {cc : ByteArray} {nL : Nat} {args : Array Value} {D : tD} (CF : CallFix p m c cc nL s args lw_all RL) (hK : th_K D s) (hR : rm_X8_script.frames + 1 ≤ R.frames ∧ 8 + (2 + 11) + rm_X8_script.locals ≤ R.locals) : CallW R s args RL RX8 73 yX8_script cX8_script 2 ((Option.some Jvm.ClassFile.FieldType.int)) (ws_ yX8_script cX8_script 2 ((Option.some Jvm.ClassFile.FieldType.int))) rm_X8_script 0 0 0 :=
  cwV 0 CF.2.2.2.2 (lw_V q1838 q1839 q1840 q117 q1841) rfl rfl rfl ⟨rfl, by decide +kernel, by decide +kernel, by decide +kernel⟩ hR
theorem cw_L_70 {R : Room} {s : State} {m : MethodId} {p : Program} {c : Code} {cc : ByteArray} {nL : Nat} {args : Array Value} {D : tD} (CF : CallFix p m c cc nL s args lw_all RL) (hK : th_K D s) (hR : rm_X0_script.frames + 1 ≤ R.frames ∧ 8 + (2 + 11) + rm_X0_script.locals ≤ R.locals) : vz_CVW R s args RL RX0 70 yX0_script cX0_script 2 ((Option.some Jvm.ClassFile.FieldType.int)) [((14 : Nat), (22 : Nat), (23 : Nat), (9 : Nat))] (wsW_ yX0_script cX0_script 2 ((Option.some Jvm.ClassFile.FieldType.int)) [((14 : Nat), (22 : Nat), (23 : Nat), (9 : Nat))]) rm_X0_script 1342 8122 0 :=
  vz_cwVW 0 CF.2.2.2.2 (lw_VW q898 q899 q900 q105 q901) rfl rfl rfl ⟨rfl, by decide +kernel, by decide +kernel, by decide +kernel⟩ hR
theorem cw_L_77 {R : Room} {s : State} {m : MethodId} {p : Program} {c : Code} {cc : ByteArray} {nL : Nat} {args : Array Value} {D : tD} (CF : CallFix p m c cc nL s args lw_all RL) (hK : th_K D s) (hR : rm_X8_fault.frames + 1 ≤ R.frames ∧ 8 + (1 + 11) + rm_X8_fault.locals ≤ R.locals) : CallW R s args RL RX8 77 yX8_fault cX8_fault 1 ((Option.some Jvm.ClassFile.FieldType.int)) (ws_ yX8_fault cX8_fault 1 ((Option.some Jvm.ClassFile.FieldType.int))) rm_X8_fault 0 0 0 :=
  cwV 0 CF.2.2.2.2 (lw_V q1878 q1879 q1880 q117 q1881) rfl rfl rfl ⟨rfl, by decide +kernel, by decide +kernel, by decide +kernel⟩ hR
theorem cw_L_74 {R : Room} {s : State} {m : MethodId} {p : Program} {c : Code} {cc : ByteArray} {nL : Nat} {args : Array Value} {D : tD} (CF : CallFix p m c cc nL s args lw_all RL) (hK : th_K D s) (hR : rm_X0_fault.frames + 1 ≤ R.frames ∧ 8 + (1 + 11) + rm_X0_fault.locals ≤ R.locals) : CallW R s args RL RX0 74 yX0_fault cX0_fault 1 ((Option.some Jvm.ClassFile.FieldType.int)) (ws_ yX0_fault cX0_fault 1 ((Option.some Jvm.ClassFile.FieldType.int))) rm_X0_fault 0 0 0 :=
  cwV 0 CF.2.2.2.2 (lw_V q894 q895 q896 q105 q897) rfl rfl rfl ⟨rfl, by decide +kernel, by decide +kernel, by decide +kernel⟩ hR
theorem cw_L_81 {R : Room} {s : State} {m : MethodId} {p : Program} {c : Code} {cc : ByteArray} {nL : Nat} {args : Array Value} {D : tD} (CF : CallFix p m c cc nL s args lw_all RL) (hK : th_K D s) (hR : rm_X8_reason.frames + 1 ≤ R.frames ∧ 8 + (3 + 11) + rm_X8_reason.locals ≤ R.locals) : CallW R s args RL RX8 81 yX8_reason cX8_reason 3 ((Option.some Jvm.ClassFile.FieldType.int)) (ws_ yX8_reason cX8_reason 3 ((Option.some Jvm.ClassFile.FieldType.int))) rm_X8_reason 0 0 2 :=
  cwV 2 CF.2.2.2.2 (lw_V q1512 q1513 q1514 q117 q1515) rfl rfl rfl ⟨rfl, by decide +kernel, by decide +kernel, by decide +kernel⟩ hR
theorem cw_L_78 {R : Room} {s : State} {m : MethodId} {p : Program} {c : Code} {cc : ByteArray} {nL : Nat} {args : Array Value} {D : tD} (CF : CallFix p m c cc nL s args lw_all RL) (hK : th_K D s) (hR : rm_X0_reason.frames + 1 ≤ R.frames ∧ 8 + (4 + 11) + rm_X0_reason.locals ≤ R.locals) : CallW R s args RL RX0 78 yX0_reason cX0_reason 4 ((Option.some Jvm.ClassFile.FieldType.int)) (ws_ yX0_reason cX0_reason 4 ((Option.some Jvm.ClassFile.FieldType.int))) rm_X0_reason 0 0 2 :=
  cwV 2 CF.2.2.2.2 (lw_V q1164 q1165 q1166 q105 q1167) rfl rfl rfl ⟨rfl, by decide +kernel, by decide +kernel, by decide +kernel⟩ hR
theorem cw_L_85 {R : Room} {s : State} {m : MethodId} {p : Program} {c : Code} {cc : ByteArray} {nL : Nat} {args : Array Value} {D : tD} (CF : CallFix p m c cc nL s args lw_all RL) (hK : th_K D s) (hR : rm_X8_parishOf.frames + 1 ≤ R.frames ∧ 8 + (3 + 11) + rm_X8_parishOf.locals ≤ R.locals) : CallW R s args RL RX8 85 yX8_parishOf cX8_parishOf 3 ((Option.some Jvm.ClassFile.FieldType.int)) (ws_ yX8_parishOf cX8_parishOf 3 ((Option.some Jvm.ClassFile.FieldType.int))) rm_X8_parishOf 0 0 2 :=
  cwV 2 CF.2.2.2.2 (lw_V q1801 q1802 q1803 q117 q1804) rfl rfl rfl ⟨rfl, by decide +kernel, by decide +kernel, by decide +kernel⟩ hR
theorem cw_L_82 {R : Room} {s : State} {m : MethodId} {p : Program} {c : Code} {cc : ByteArray} {nL : Nat} {args : Array Value} {D : tD} (CF : CallFix p m c cc nL s args lw_all RL) (hK : th_K D s) (hR : rm_X0_parishOf.frames + 1 ≤ R.frames ∧ 8 + (4 + 11) + rm_X0_parishOf.locals ≤ R.locals) : CallW R s args RL RX0 82 yX0_parishOf cX0_parishOf 4 ((Option.some Jvm.ClassFile.FieldType.int)) (ws_ yX0_parishOf cX0_parishOf 4 ((Option.some Jvm.ClassFile.FieldType.int))) rm_X0_parishOf 5 10 2 :=
  cwV 2 CF.2.2.2.2 (lw_V q1181 q1182 q1183 q105 q1184) rfl rfl rfl ⟨rfl, by decide +kernel, by decide +kernel, by decide +kernel⟩ hR
theorem cw_L_89 {R : Room} {s : State} {m : MethodId} {p : Program} {c : Code} {cc : ByteArray} {nL : Nat} {args : Array Value} {D : tD} (CF : CallFix p m c cc nL s args lw_all RL) (hK : th_K D s) (hR : rm_X8_bayOf.frames + 1 ≤ R.frames ∧ 8 + (3 + 11) + rm_X8_bayOf.locals ≤ R.locals) : CallW R s args RL RX8 89 yX8_bayOf cX8_bayOf 3 ((Option.some Jvm.ClassFile.FieldType.int)) (ws_ yX8_bayOf cX8_bayOf 3 ((Option.some Jvm.ClassFile.FieldType.int))) rm_X8_bayOf 0 0 2 :=
  cwV 2 CF.2.2.2.2 (lw_V q1617 q1618 q1619 q117 q1620) rfl rfl rfl ⟨rfl, by decide +kernel, by decide +kernel, by decide +kernel⟩ hR
theorem cw_L_86 {R : Room} {s : State} {m : MethodId} {p : Program} {c : Code} {cc : ByteArray} {nL : Nat} {args : Array Value} {D : tD} (CF : CallFix p m c cc nL s args lw_all RL) (hK : th_K D s) (hR : rm_X0_bayOf.frames + 1 ≤ R.frames ∧ 8 + (7 + 11) + rm_X0_bayOf.locals ≤ R.locals) : CallW R s args RL RX0 86 yX0_bayOf cX0_bayOf 7 ((Option.some Jvm.ClassFile.FieldType.int)) (ws_ yX0_bayOf cX0_bayOf 7 ((Option.some Jvm.ClassFile.FieldType.int))) rm_X0_bayOf 1 2 2 :=
  cwV 2 CF.2.2.2.2 (lw_V q1262 q1263 q1264 q105 q1265) rfl rfl rfl ⟨rfl, by decide +kernel, by decide +kernel, by decide +kernel⟩ hR
theorem cw_L_93 {R : Room} {s : State} {m : MethodId} {p : Program} {c : Code} {cc : ByteArray} {nL : Nat} {args : Array Value} {D : tD} (CF : CallFix p m c cc nL s args lw_all RL) (hK : th_K D s) (hR : rm_X8_lotOf.frames + 1 ≤ R.frames ∧ 8 + (5 + 11) + rm_X8_lotOf.locals ≤ R.locals) : CallW R s args RL RX8 93 yX8_lotOf cX8_lotOf 5 ((Option.some Jvm.ClassFile.FieldType.int)) (ws_ yX8_lotOf cX8_lotOf 5 ((Option.some Jvm.ClassFile.FieldType.int))) rm_X8_lotOf 0 0 3 :=
  cwV 3 CF.2.2.2.2 (lw_V q1641 q1642 q1643 q117 q1644) rfl rfl rfl ⟨rfl, by decide +kernel, by decide +kernel, by decide +kernel⟩ hR
theorem cw_L_90 {R : Room} {s : State} {m : MethodId} {p : Program} {c : Code} {cc : ByteArray} {nL : Nat} {args : Array Value} {D : tD} (CF : CallFix p m c cc nL s args lw_all RL) (hK : th_K D s) (hR : rm_X0_lotOf.frames + 1 ≤ R.frames ∧ 8 + (5 + 11) + rm_X0_lotOf.locals ≤ R.locals) : CallW R s args RL RX0 90 yX0_lotOf cX0_lotOf 5 ((Option.some Jvm.ClassFile.FieldType.int)) (ws_ yX0_lotOf cX0_lotOf 5 ((Option.some Jvm.ClassFile.FieldType.int))) rm_X0_lotOf 0 0 3 :=
  cwV 3 CF.2.2.2.2 (lw_V q1276 q1277 q1278 q105 q1279) rfl rfl rfl ⟨rfl, by decide +kernel, by decide +kernel, by decide +kernel⟩ hR
theorem cw_L_97 {R : Room} {s : State} {m : MethodId} {p : Program} {c : Code} {cc : ByteArray} {nL : Nat} {args : Array Value} {D : tD} (CF : CallFix p m c cc nL s args lw_all RL) (hK : th_K D s) (hR : rm_X8_floorOf.frames + 1 ≤ R.frames ∧ 8 + (3 + 11) + rm_X8_floorOf.locals ≤ R.locals) : CallW R s args RL RX8 97 yX8_floorOf cX8_floorOf 3 ((Option.some Jvm.ClassFile.FieldType.int)) (ws_ yX8_floorOf cX8_floorOf 3 ((Option.some Jvm.ClassFile.FieldType.int))) rm_X8_floorOf 0 0 2 :=
  cwV 2 CF.2.2.2.2 (lw_V q1688 q1689 q1690 q117 q1691) rfl rfl rfl ⟨rfl, by decide +kernel, by decide +kernel, by decide +kernel⟩ hR
theorem cw_L_94 {R : Room} {s : State} {m : MethodId} {p : Program} {c : Code} {cc : ByteArray} {nL : Nat} {args : Array Value} {D : tD} (CF : CallFix p m c cc nL s args lw_all RL) (hK : th_K D s) (hR : rm_X0_floorOf.frames + 1 ≤ R.frames ∧ 8 + (4 + 11) + rm_X0_floorOf.locals ≤ R.locals) : CallW R s args RL RX0 94 yX0_floorOf cX0_floorOf 4 ((Option.some Jvm.ClassFile.FieldType.int)) (ws_ yX0_floorOf cX0_floorOf 4 ((Option.some Jvm.ClassFile.FieldType.int))) rm_X0_floorOf 0 0 2 :=
  cwV 2 CF.2.2.2.2 (lw_V q1280 q1281 q1282 q105 q1283) rfl rfl rfl ⟨rfl, by decide +kernel, by decide +kernel, by decide +kernel⟩ hR
theorem cw_L_101 {R : Room} {s : State} {m : MethodId} {p : Program} {c : Code} {cc : ByteArray} {nL : Nat} {args : Array Value} {D : tD} (CF : CallFix p m c cc nL s args lw_all RL) (hK : th_K D s) (hR : rm_X8_binOf.frames + 1 ≤ R.frames ∧ 8 + (3 + 11) + rm_X8_binOf.locals ≤ R.locals) : CallW R s args RL RX8 101 yX8_binOf cX8_binOf 3 ((Option.some Jvm.ClassFile.FieldType.int)) (ws_ yX8_binOf cX8_binOf 3 ((Option.some Jvm.ClassFile.FieldType.int))) rm_X8_binOf 0 0 2 :=
  cwV 2 CF.2.2.2.2 (lw_V q1692 q1693 q1694 q117 q1695) rfl rfl rfl ⟨rfl, by decide +kernel, by decide +kernel, by decide +kernel⟩ hR
theorem cw_L_98 {R : Room} {s : State} {m : MethodId} {p : Program} {c : Code} {cc : ByteArray} {nL : Nat} {args : Array Value} {D : tD} (CF : CallFix p m c cc nL s args lw_all RL) (hK : th_K D s) (hR : rm_X0_binOf.frames + 1 ≤ R.frames ∧ 8 + (4 + 11) + rm_X0_binOf.locals ≤ R.locals) : CallW R s args RL RX0 98 yX0_binOf cX0_binOf 4 ((Option.some Jvm.ClassFile.FieldType.int)) (ws_ yX0_binOf cX0_binOf 4 ((Option.some Jvm.ClassFile.FieldType.int))) rm_X0_binOf 0 0 2 :=
  cwV 2 CF.2.2.2.2 (lw_V q1284 q1285 q1286 q105 q1287) rfl rfl rfl ⟨rfl, by decide +kernel, by decide +kernel, by decide +kernel⟩ hR
theorem cw_L_105 {R : Room} {s : State} {m : MethodId} {p : Program} {c : Code} {cc : ByteArray} {nL : Nat} {args : Array Value} {D : tD} (CF : CallFix p m c cc nL s args lw_all RL) (hK : th_K D s) (hR : rm_X8_placeOf.frames + 1 ≤ R.frames ∧ 8 + (3 + 11) + rm_X8_placeOf.locals ≤ R.locals) : CallW R s args RL RX8 105 yX8_placeOf cX8_placeOf 3 ((Option.some Jvm.ClassFile.FieldType.int)) (ws_ yX8_placeOf cX8_placeOf 3 ((Option.some Jvm.ClassFile.FieldType.int))) rm_X8_placeOf 0 0 2 :=
  cwV 2 CF.2.2.2.2 (lw_V q1739 q1740 q1741 q117 q1742) rfl rfl rfl ⟨rfl, by decide +kernel, by decide +kernel, by decide +kernel⟩ hR
theorem cw_L_102 {R : Room} {s : State} {m : MethodId} {p : Program} {c : Code} {cc : ByteArray} {nL : Nat} {args : Array Value} {D : tD} (CF : CallFix p m c cc nL s args lw_all RL) (hK : th_K D s) (hR : rm_X0_placeOf.frames + 1 ≤ R.frames ∧ 8 + (4 + 11) + rm_X0_placeOf.locals ≤ R.locals) : CallW R s args RL RX0 102 yX0_placeOf cX0_placeOf 4 ((Option.some Jvm.ClassFile.FieldType.int)) (ws_ yX0_placeOf cX0_placeOf 4 ((Option.some Jvm.ClassFile.FieldType.int))) rm_X0_placeOf 0 0 2 :=
  cwV 2 CF.2.2.2.2 (lw_V q1288 q1289 q1290 q105 q1291) rfl rfl rfl ⟨rfl, by decide +kernel, by decide +kernel, by decide +kernel⟩ hR
theorem cw_L_109 {R : Room} {s : State} {m : MethodId} {p : Program} {c : Code} {cc : ByteArray} {nL : Nat} {args : Array Value} {D : tD} (CF : CallFix p m c cc nL s args lw_all RL) (hK : th_K D s) (hR : rm_X8_tithe.frames + 1 ≤ R.frames ∧ 8 + (3 + 11) + rm_X8_tithe.locals ≤ R.locals) : CallW R s args RL RX8 109 yX8_tithe cX8_tithe 3 ((Option.some Jvm.ClassFile.FieldType.int)) (ws_ yX8_tithe cX8_tithe 3 ((Option.some Jvm.ClassFile.FieldType.int))) rm_X8_tithe 0 0 2 :=
  cwV 2 CF.2.2.2.2 (lw_V q1582 q1583 q1584 q117 q1585) rfl rfl rfl ⟨rfl, by decide +kernel, by decide +kernel, by decide +kernel⟩ hR
theorem cw_L_106 {R : Room} {s : State} {m : MethodId} {p : Program} {c : Code} {cc : ByteArray} {nL : Nat} {args : Array Value} {D : tD} (CF : CallFix p m c cc nL s args lw_all RL) (hK : th_K D s) (hR : rm_X0_tithe.frames + 1 ≤ R.frames ∧ 8 + (3 + 11) + rm_X0_tithe.locals ≤ R.locals) : CallW R s args RL RX0 106 yX0_tithe cX0_tithe 3 ((Option.some Jvm.ClassFile.FieldType.int)) (ws_ yX0_tithe cX0_tithe 3 ((Option.some Jvm.ClassFile.FieldType.int))) rm_X0_tithe 0 0 2 :=
  cwV 2 CF.2.2.2.2 (lw_V q1292 q1293 q1294 q105 q1295) rfl rfl rfl ⟨rfl, by decide +kernel, by decide +kernel, by decide +kernel⟩ hR
theorem cw_L_113 {R : Room} {s : State} {m : MethodId} {p : Program} {c : Code} {cc : ByteArray} {nL : Nat} {args : Array Value} {D : tD} (CF : CallFix p m c cc nL s args lw_all RL) (hK : th_K D s) (hR : rm_X8_titheAgain.frames + 1 ≤ R.frames ∧ 8 + (3 + 11) + rm_X8_titheAgain.locals ≤ R.locals) : CallW R s args RL RX8 113 yX8_titheAgain cX8_titheAgain 3 ((Option.some Jvm.ClassFile.FieldType.int)) (ws_ yX8_titheAgain cX8_titheAgain 3 ((Option.some Jvm.ClassFile.FieldType.int))) rm_X8_titheAgain 0 0 2 :=
  cwV 2 CF.2.2.2.2 (lw_V q1586 q1587 q1588 q117 q1589) rfl rfl rfl ⟨rfl, by decide +kernel, by decide +kernel, by decide +kernel⟩ hR
theorem cw_L_110 {R : Room} {s : State} {m : MethodId} {p : Program} {c : Code} {cc : ByteArray} {nL : Nat} {args : Array Value} {D : tD} (CF : CallFix p m c cc nL s args lw_all RL) (hK : th_K D s) (hR : rm_X0_titheAgain.frames + 1 ≤ R.frames ∧ 8 + (6 + 11) + rm_X0_titheAgain.locals ≤ R.locals) : CallW R s args RL RX0 110 yX0_titheAgain cX0_titheAgain 6 ((Option.some Jvm.ClassFile.FieldType.int)) (ws_ yX0_titheAgain cX0_titheAgain 6 ((Option.some Jvm.ClassFile.FieldType.int))) rm_X0_titheAgain 0 0 2 :=
  cwV 2 CF.2.2.2.2 (lw_V q1296 q1297 q1298 q105 q1299) rfl rfl rfl ⟨rfl, by decide +kernel, by decide +kernel, by decide +kernel⟩ hR
theorem cw_L_117 {R : Room} {s : State} {m : MethodId} {p : Program} {c : Code} {cc : ByteArray} {nL : Nat} {args : Array Value} {D : tD} (CF : CallFix p m c cc nL s args lw_all RL) (hK : th_K D s) (hR : rm_X8_lasts.frames + 1 ≤ R.frames ∧ 8 + (4 + 11) + rm_X8_lasts.locals ≤ R.locals) : CallW R s args RL RX8 117 yX8_lasts cX8_lasts 4 ((Option.some Jvm.ClassFile.FieldType.int)) (ws_ yX8_lasts cX8_lasts 4 ((Option.some Jvm.ClassFile.FieldType.int))) rm_X8_lasts 0 0 1 :=
  cwV 1 CF.2.2.2.2 (lw_V q1776 q1777 q1778 q117 q1779) rfl rfl rfl ⟨rfl, by decide +kernel, by decide +kernel, by decide +kernel⟩ hR
theorem cw_L_114 {R : Room} {s : State} {m : MethodId} {p : Program} {c : Code} {cc : ByteArray} {nL : Nat} {args : Array Value} {D : tD} (CF : CallFix p m c cc nL s args lw_all RL) (hK : th_K D s) (hR : rm_X0_lasts.frames + 1 ≤ R.frames ∧ 8 + (4 + 11) + rm_X0_lasts.locals ≤ R.locals) : CallW R s args RL RX0 114 yX0_lasts cX0_lasts 4 ((Option.some Jvm.ClassFile.FieldType.int)) (ws_ yX0_lasts cX0_lasts 4 ((Option.some Jvm.ClassFile.FieldType.int))) rm_X0_lasts 0 0 1 :=
  cwV 1 CF.2.2.2.2 (lw_V q1300 q1301 q1302 q105 q1303) rfl rfl rfl ⟨rfl, by decide +kernel, by decide +kernel, by decide +kernel⟩ hR
theorem cw_L_121 {R : Room} {s : State} {m : MethodId} {p : Program} {c : Code} {cc : ByteArray} {nL : Nat} {args : Array Value} {D : tD} (CF : CallFix p m c cc nL s args lw_all RL) (hK : th_K D s) (hR : rm_X8_bestCat.frames + 1 ≤ R.frames ∧ 8 + (6 + 11) + rm_X8_bestCat.locals ≤ R.locals) : CallW R s args RL RX8 121 yX8_bestCat cX8_bestCat 6 ((Option.some Jvm.ClassFile.FieldType.int)) (ws_ yX8_bestCat cX8_bestCat 6 ((Option.some Jvm.ClassFile.FieldType.int))) rm_X8_bestCat 0 0 1 :=
  cwV 1 CF.2.2.2.2 (lw_V q1780 q1781 q1782 q117 q1783) rfl rfl rfl ⟨rfl, by decide +kernel, by decide +kernel, by decide +kernel⟩ hR
theorem cw_L_118 {R : Room} {s : State} {m : MethodId} {p : Program} {c : Code} {cc : ByteArray} {nL : Nat} {args : Array Value} {D : tD} (CF : CallFix p m c cc nL s args lw_all RL) (hK : th_K D s) (hR : rm_X0_bestCat.frames + 1 ≤ R.frames ∧ 8 + (6 + 11) + rm_X0_bestCat.locals ≤ R.locals) : CallW R s args RL RX0 118 yX0_bestCat cX0_bestCat 6 ((Option.some Jvm.ClassFile.FieldType.int)) (ws_ yX0_bestCat cX0_bestCat 6 ((Option.some Jvm.ClassFile.FieldType.int))) rm_X0_bestCat 0 0 1 :=
  cwV 1 CF.2.2.2.2 (lw_V q1304 q1305 q1306 q105 q1307) rfl rfl rfl ⟨rfl, by decide +kernel, by decide +kernel, by decide +kernel⟩ hR
theorem cw_L_125 {R : Room} {s : State} {m : MethodId} {p : Program} {c : Code} {cc : ByteArray} {nL : Nat} {args : Array Value} {D : tD} (CF : CallFix p m c cc nL s args lw_all RL) (hK : th_K D s) (hR : rm_X8_ranked.frames + 1 ≤ R.frames ∧ 8 + (4 + 11) + rm_X8_ranked.locals ≤ R.locals) : CallW R s args RL RX8 125 yX8_ranked cX8_ranked 4 ((Option.some Jvm.ClassFile.FieldType.int)) (ws_ yX8_ranked cX8_ranked 4 ((Option.some Jvm.ClassFile.FieldType.int))) rm_X8_ranked 0 0 1 :=
  cwV 1 CF.2.2.2.2 (lw_V q1789 q1790 q1791 q117 q1792) rfl rfl rfl ⟨rfl, by decide +kernel, by decide +kernel, by decide +kernel⟩ hR
theorem cw_L_122 {R : Room} {s : State} {m : MethodId} {p : Program} {c : Code} {cc : ByteArray} {nL : Nat} {args : Array Value} {D : tD} (CF : CallFix p m c cc nL s args lw_all RL) (hK : th_K D s) (hR : rm_X0_ranked.frames + 1 ≤ R.frames ∧ 8 + (3 + 11) + rm_X0_ranked.locals ≤ R.locals) : CallW R s args RL RX0 122 yX0_ranked cX0_ranked 3 ((Option.some Jvm.ClassFile.FieldType.int)) (ws_ yX0_ranked cX0_ranked 3 ((Option.some Jvm.ClassFile.FieldType.int))) rm_X0_ranked 0 0 1 :=
  cwV 1 CF.2.2.2.2 (lw_V q1314 q1315 q1316 q105 q1317) rfl rfl rfl ⟨rfl, by decide +kernel, by decide +kernel, by decide +kernel⟩ hR
theorem cw_L_129 {R : Room} {s : State} {m : MethodId} {p : Program} {c : Code} {cc : ByteArray} {nL : Nat} {args : Array Value} {D : tD} (CF : CallFix p m c cc nL s args lw_all RL) (hK : th_K D s) (hR : rm_X8_grain.frames + 1 ≤ R.frames ∧ 8 + (2 + 11) + rm_X8_grain.locals ≤ R.locals) : CallW R s args RL RX8 129 yX8_grain cX8_grain 2 ((Option.some Jvm.ClassFile.FieldType.int)) (ws_ yX8_grain cX8_grain 2 ((Option.some Jvm.ClassFile.FieldType.int))) rm_X8_grain 0 0 1 :=
  cwV 1 CF.2.2.2.2 (lw_V q1809 q1810 q1811 q117 q1812) rfl rfl rfl ⟨rfl, by decide +kernel, by decide +kernel, by decide +kernel⟩ hR
theorem cw_L_126 {R : Room} {s : State} {m : MethodId} {p : Program} {c : Code} {cc : ByteArray} {nL : Nat} {args : Array Value} {D : tD} (CF : CallFix p m c cc nL s args lw_all RL) (hK : th_K D s) (hR : rm_X0_grain.frames + 1 ≤ R.frames ∧ 8 + (2 + 11) + rm_X0_grain.locals ≤ R.locals) : CallW R s args RL RX0 126 yX0_grain cX0_grain 2 ((Option.some Jvm.ClassFile.FieldType.int)) (ws_ yX0_grain cX0_grain 2 ((Option.some Jvm.ClassFile.FieldType.int))) rm_X0_grain 5 10 1 :=
  cwV 1 CF.2.2.2.2 (lw_V q1318 q1319 q1320 q105 q1321) rfl rfl rfl ⟨rfl, by decide +kernel, by decide +kernel, by decide +kernel⟩ hR
theorem cw_L_133 {R : Room} {s : State} {m : MethodId} {p : Program} {c : Code} {cc : ByteArray} {nL : Nat} {args : Array Value} {D : tD} (CF : CallFix p m c cc nL s args lw_all RL) (hK : th_K D s) (hR : rm_X8_grainAgain.frames + 1 ≤ R.frames ∧ 8 + (1 + 11) + rm_X8_grainAgain.locals ≤ R.locals) : CallW R s args RL RX8 133 yX8_grainAgain cX8_grainAgain 1 ((Option.some Jvm.ClassFile.FieldType.int)) (ws_ yX8_grainAgain cX8_grainAgain 1 ((Option.some Jvm.ClassFile.FieldType.int))) rm_X8_grainAgain 0 0 0 :=
  cwV 0 CF.2.2.2.2 (lw_V q1817 q1818 q1819 q117 q1820) rfl rfl rfl ⟨rfl, by decide +kernel, by decide +kernel, by decide +kernel⟩ hR
theorem cw_L_130 {R : Room} {s : State} {m : MethodId} {p : Program} {c : Code} {cc : ByteArray} {nL : Nat} {args : Array Value} {D : tD} (CF : CallFix p m c cc nL s args lw_all RL) (hK : th_K D s) (hR : rm_X0_grainAgain.frames + 1 ≤ R.frames ∧ 8 + (1 + 11) + rm_X0_grainAgain.locals ≤ R.locals) : CallW R s args RL RX0 130 yX0_grainAgain cX0_grainAgain 1 ((Option.some Jvm.ClassFile.FieldType.int)) (ws_ yX0_grainAgain cX0_grainAgain 1 ((Option.some Jvm.ClassFile.FieldType.int))) rm_X0_grainAgain 5 10 0 :=
  cwV 0 CF.2.2.2.2 (lw_V q1340 q1341 q1342 q105 q1343) rfl rfl rfl ⟨rfl, by decide +kernel, by decide +kernel, by decide +kernel⟩ hR
theorem cw_L_138 {R : Room} {s : State} {m : MethodId} {p : Program} {c : Code} {cc : ByteArray} {nL : Nat} {args : Array Value} {D : tD} (CF : CallFix p m c cc nL s args lw_all RL) (hK : th_K D s) (hR : rm_X8_share.frames + 1 ≤ R.frames ∧ 8 + (3 + 11) + rm_X8_share.locals ≤ R.locals) : CallW R s args RL RX8 138 yX8_share cX8_share 3 ((Option.some Jvm.ClassFile.FieldType.float)) (ws_ yX8_share cX8_share 3 ((Option.some Jvm.ClassFile.FieldType.float))) rm_X8_share 0 0 1 :=
  cwV 1 CF.2.2.2.2 (lw_V q1821 q1822 q1823 q117 q1824) rfl rfl rfl ⟨rfl, by decide +kernel, by decide +kernel, by decide +kernel⟩ hR
theorem cw_L_134 {R : Room} {s : State} {m : MethodId} {p : Program} {c : Code} {cc : ByteArray} {nL : Nat} {args : Array Value} {D : tD} (CF : CallFix p m c cc nL s args lw_all RL) (hK : th_K D s) (hR : rm_X0_share.frames + 1 ≤ R.frames ∧ 8 + (3 + 11) + rm_X0_share.locals ≤ R.locals) : CallW R s args RL RX0 134 yX0_share cX0_share 3 ((Option.some Jvm.ClassFile.FieldType.float)) (ws_ yX0_share cX0_share 3 ((Option.some Jvm.ClassFile.FieldType.float))) rm_X0_share 35 70 1 :=
  cwV 1 CF.2.2.2.2 (lw_V q1344 q1345 q1346 q105 q1347) rfl rfl rfl ⟨rfl, by decide +kernel, by decide +kernel, by decide +kernel⟩ hR
theorem cw_L_143 {R : Room} {s : State} {m : MethodId} {p : Program} {c : Code} {cc : ByteArray} {nL : Nat} {args : Array Value} {D : tD} (CF : CallFix p m c cc nL s args lw_all RL) (hK : th_K D s) (hR : rm_X8_meanRats.frames + 1 ≤ R.frames ∧ 8 + (1 + 11) + rm_X8_meanRats.locals ≤ R.locals) : CallW R s args RL RX8 143 yX8_meanRats cX8_meanRats 1 ((Option.some Jvm.ClassFile.FieldType.double)) (ws_ yX8_meanRats cX8_meanRats 1 ((Option.some Jvm.ClassFile.FieldType.double))) rm_X8_meanRats 0 0 0 :=
  cwV 0 CF.2.2.2.2 (lw_V q1829 q1830 q1831 q117 q1832) rfl rfl rfl ⟨rfl, by decide +kernel, by decide +kernel, by decide +kernel⟩ hR
theorem cw_L_139 {R : Room} {s : State} {m : MethodId} {p : Program} {c : Code} {cc : ByteArray} {nL : Nat} {args : Array Value} {D : tD} (CF : CallFix p m c cc nL s args lw_all RL) (hK : th_K D s) (hR : rm_X0_meanRats.frames + 1 ≤ R.frames ∧ 8 + (1 + 11) + rm_X0_meanRats.locals ≤ R.locals) : CallW R s args RL RX0 139 yX0_meanRats cX0_meanRats 1 ((Option.some Jvm.ClassFile.FieldType.double)) (ws_ yX0_meanRats cX0_meanRats 1 ((Option.some Jvm.ClassFile.FieldType.double))) rm_X0_meanRats 0 0 0 :=
  cwV 0 CF.2.2.2.2 (lw_V q1353 q1354 q1355 q105 q1356) rfl rfl rfl ⟨rfl, by decide +kernel, by decide +kernel, by decide +kernel⟩ hR
theorem cw_L_147 {R : Room} {s : State} {m : MethodId} {p : Program} {c : Code} {cc : ByteArray} {nL : Nat} {args : Array Value} {D : tD} (CF : CallFix p m c cc nL s args lw_all RL) (hK : th_K D s) (hR : rm_X8_describe.frames + 1 ≤ R.frames ∧ 8 + (5 + 11) + rm_X8_describe.locals ≤ R.locals) : CallW R s args RL RX8 147 yX8_describe cX8_describe 5 ((Option.some Jvm.ClassFile.FieldType.int)) (ws_ yX8_describe cX8_describe 5 ((Option.some Jvm.ClassFile.FieldType.int))) rm_X8_describe 0 0 1 :=
  cwV 1 CF.2.2.2.2 (lw_V q1882 q1883 q1884 q117 q1885) rfl rfl rfl ⟨rfl, by decide +kernel, by decide +kernel, by decide +kernel⟩ hR
theorem cw_L_144 {R : Room} {s : State} {m : MethodId} {p : Program} {c : Code} {cc : ByteArray} {nL : Nat} {args : Array Value} {D : tD} (CF : CallFix p m c cc nL s args lw_all RL) (hK : th_K D s) (hR : rm_X0_describe.frames + 1 ≤ R.frames ∧ 8 + (4 + 11) + rm_X0_describe.locals ≤ R.locals) : CallW R s args RL RX0 144 yX0_describe cX0_describe 4 ((Option.some Jvm.ClassFile.FieldType.int)) (ws_ yX0_describe cX0_describe 4 ((Option.some Jvm.ClassFile.FieldType.int))) rm_X0_describe 1 2 1 :=
  cwV 1 CF.2.2.2.2 (lw_V q1363 q1364 q1365 q105 q1366) rfl rfl rfl ⟨rfl, by decide +kernel, by decide +kernel, by decide +kernel⟩ hR
theorem cw_L_151 {R : Room} {s : State} {m : MethodId} {p : Program} {c : Code} {cc : ByteArray} {nL : Nat} {args : Array Value} {D : tD} (CF : CallFix p m c cc nL s args lw_all RL) (hK : th_K D s) (hR : rm_X8_written.frames + 1 ≤ R.frames ∧ 8 + (2 + 11) + rm_X8_written.locals ≤ R.locals) : CallW R s args RL RX8 151 yX8_written cX8_written 2 ((Option.some Jvm.ClassFile.FieldType.int)) (ws_ yX8_written cX8_written 2 ((Option.some Jvm.ClassFile.FieldType.int))) rm_X8_written 0 0 1 :=
  cwV 1 CF.2.2.2.2 (lw_V q1894 q1895 q1896 q117 q1897) rfl rfl rfl ⟨rfl, by decide +kernel, by decide +kernel, by decide +kernel⟩ hR
theorem cw_L_148 {R : Room} {s : State} {m : MethodId} {p : Program} {c : Code} {cc : ByteArray} {nL : Nat} {args : Array Value} {D : tD} (CF : CallFix p m c cc nL s args lw_all RL) (hK : th_K D s) (hR : rm_X0_written.frames + 1 ≤ R.frames ∧ 8 + (2 + 11) + rm_X0_written.locals ≤ R.locals) : CallW R s args RL RX0 148 yX0_written cX0_written 2 ((Option.some Jvm.ClassFile.FieldType.int)) (ws_ yX0_written cX0_written 2 ((Option.some Jvm.ClassFile.FieldType.int))) rm_X0_written 0 0 1 :=
  cwV 1 CF.2.2.2.2 (lw_V q1401 q1402 q1403 q105 q1404) rfl rfl rfl ⟨rfl, by decide +kernel, by decide +kernel, by decide +kernel⟩ hR
theorem cw_L_155 {R : Room} {s : State} {m : MethodId} {p : Program} {c : Code} {cc : ByteArray} {nL : Nat} {args : Array Value} {D : tD} (CF : CallFix p m c cc nL s args lw_all RL) (hK : th_K D s) (hR : rm_X8_account.frames + 1 ≤ R.frames ∧ 8 + (2 + 11) + rm_X8_account.locals ≤ R.locals) : CallW R s args RL RX8 155 yX8_account cX8_account 2 ((Option.some Jvm.ClassFile.FieldType.int)) (ws_ yX8_account cX8_account 2 ((Option.some Jvm.ClassFile.FieldType.int))) rm_X8_account 0 0 1 :=
  cwV 1 CF.2.2.2.2 (lw_V q1898 q1899 q1900 q117 q1901) rfl rfl rfl ⟨rfl, by decide +kernel, by decide +kernel, by decide +kernel⟩ hR
theorem cw_L_152 {R : Room} {s : State} {m : MethodId} {p : Program} {c : Code} {cc : ByteArray} {nL : Nat} {args : Array Value} {D : tD} (CF : CallFix p m c cc nL s args lw_all RL) (hK : th_K D s) (hR : rm_X0_account.frames + 1 ≤ R.frames ∧ 8 + (2 + 11) + rm_X0_account.locals ≤ R.locals) : CallW R s args RL RX0 152 yX0_account cX0_account 2 ((Option.some Jvm.ClassFile.FieldType.int)) (ws_ yX0_account cX0_account 2 ((Option.some Jvm.ClassFile.FieldType.int))) rm_X0_account 35 70 1 :=
  cwV 1 CF.2.2.2.2 (lw_V q1405 q1406 q1407 q105 q1408) rfl rfl rfl ⟨rfl, by decide +kernel, by decide +kernel, by decide +kernel⟩ hR
theorem cw_L_159 {R : Room} {s : State} {m : MethodId} {p : Program} {c : Code} {cc : ByteArray} {nL : Nat} {args : Array Value} {D : tD} (CF : CallFix p m c cc nL s args lw_all RL) (hK : th_K D s) (hR : rm_X8_undo.frames + 1 ≤ R.frames ∧ 8 + (1 + 11) + rm_X8_undo.locals ≤ R.locals) : CallW R s args RL RX8 159 yX8_undo cX8_undo 1 ((Option.some Jvm.ClassFile.FieldType.int)) (ws_ yX8_undo cX8_undo 1 ((Option.some Jvm.ClassFile.FieldType.int))) rm_X8_undo 0 0 0 :=
  cwV 0 CF.2.2.2.2 (lw_V q1516 q1517 q1518 q117 q1519) rfl rfl rfl ⟨rfl, by decide +kernel, by decide +kernel, by decide +kernel⟩ hR
theorem cw_L_156 {R : Room} {s : State} {m : MethodId} {p : Program} {c : Code} {cc : ByteArray} {nL : Nat} {args : Array Value} {D : tD} (CF : CallFix p m c cc nL s args lw_all RL) (hK : th_K D s) (hR : rm_X0_undo.frames + 1 ≤ R.frames ∧ 8 + (1 + 11) + rm_X0_undo.locals ≤ R.locals) : CallW R s args RL RX0 156 yX0_undo cX0_undo 1 ((Option.some Jvm.ClassFile.FieldType.int)) (ws_ yX0_undo cX0_undo 1 ((Option.some Jvm.ClassFile.FieldType.int))) rm_X0_undo 0 0 0 :=
  cwV 0 CF.2.2.2.2 (lw_V q1409 q1410 q1411 q105 q1412) rfl rfl rfl ⟨rfl, by decide +kernel, by decide +kernel, by decide +kernel⟩ hR
theorem cw_L_163 {R : Room} {s : State} {m : MethodId} {p : Program} {c : Code} {cc : ByteArray} {nL : Nat} {args : Array Value} {D : tD} (CF : CallFix p m c cc nL s args lw_all RL) (hK : th_K D s) (hR : rm_X8_save.frames + 1 ≤ R.frames ∧ 8 + (1 + 11) + rm_X8_save.locals ≤ R.locals) : CallW R s args RL RX8 163 yX8_save cX8_save 1 ((Option.some Jvm.ClassFile.FieldType.int)) (ws_ yX8_save cX8_save 1 ((Option.some Jvm.ClassFile.FieldType.int))) rm_X8_save 0 0 0 :=
  cwV 0 CF.2.2.2.2 (lw_V q1523 q1524 q1525 q117 q1526) rfl rfl rfl ⟨rfl, by decide +kernel, by decide +kernel, by decide +kernel⟩ hR
theorem cw_L_160 {R : Room} {s : State} {m : MethodId} {p : Program} {c : Code} {cc : ByteArray} {nL : Nat} {args : Array Value} {D : tD} (CF : CallFix p m c cc nL s args lw_all RL) (hK : th_K D s) (hR : rm_X0_save.frames + 1 ≤ R.frames ∧ 8 + (1 + 11) + rm_X0_save.locals ≤ R.locals) : CallW R s args RL RX0 160 yX0_save cX0_save 1 ((Option.some Jvm.ClassFile.FieldType.int)) (ws_ yX0_save cX0_save 1 ((Option.some Jvm.ClassFile.FieldType.int))) rm_X0_save 0 0 0 :=
  cwV 0 CF.2.2.2.2 (lw_V q1413 q1414 q1415 q105 q1416) rfl rfl rfl ⟨rfl, by decide +kernel, by decide +kernel, by decide +kernel⟩ hR
theorem cw_L_167 {R : Room} {s : State} {m : MethodId} {p : Program} {c : Code} {cc : ByteArray} {nL : Nat} {args : Array Value} {D : tD} (CF : CallFix p m c cc nL s args lw_all RL) (hK : th_K D s) (hR : rm_X8_restore.frames + 1 ≤ R.frames ∧ 8 + (1 + 11) + rm_X8_restore.locals ≤ R.locals) : CallW R s args RL RX8 167 yX8_restore cX8_restore 1 ((Option.some Jvm.ClassFile.FieldType.int)) (ws_ yX8_restore cX8_restore 1 ((Option.some Jvm.ClassFile.FieldType.int))) rm_X8_restore 0 0 0 :=
  cwV 0 CF.2.2.2.2 (lw_V q1527 q1528 q1529 q117 q1530) rfl rfl rfl ⟨rfl, by decide +kernel, by decide +kernel, by decide +kernel⟩ hR
theorem cw_L_164 {R : Room} {s : State} {m : MethodId} {p : Program} {c : Code} {cc : ByteArray} {nL : Nat} {args : Array Value} {D : tD} (CF : CallFix p m c cc nL s args lw_all RL) (hK : th_K D s) (hR : rm_X0_restore.frames + 1 ≤ R.frames ∧ 8 + (1 + 11) + rm_X0_restore.locals ≤ R.locals) : CallW R s args RL RX0 164 yX0_restore cX0_restore 1 ((Option.some Jvm.ClassFile.FieldType.int)) (ws_ yX0_restore cX0_restore 1 ((Option.some Jvm.ClassFile.FieldType.int))) rm_X0_restore 0 0 0 :=
  cwV 0 CF.2.2.2.2 (lw_V q1417 q1418 q1419 q105 q1420) rfl rfl rfl ⟨rfl, by decide +kernel, by decide +kernel, by decide +kernel⟩ hR
theorem cw_L_12 {R : Room} {s : State} {m : MethodId} {p : Program} {c : Code} {cc : ByteArray} {nL : Nat} {args : Array Value} {D : tD} (CF : CallFix p m c cc nL s args lw_all RL) (hK : th_K D s) (hR : rm_X8_init.frames + 1 ≤ R.frames ∧ 8 + (1 + 11) + rm_X8_init.locals ≤ R.locals) : CallB R s args RL 12 yX8_init cX8_init 1 none (ws_ yX8_init cX8_init 1 ((Option.none : Option Jvm.ClassFile.FieldType))) rm_X8_init 12 5786 0 ∧ yX8_init.name = "<init>" ∧ (Cond.instanceMethod yX8_init).before args s = true :=
  cwI 0 CF.2.2.2.2 (lw_meth q1425) rfl rfl rfl (CF.2.2.2.2 _ q117) (CF.2.2.2.2 _ q1423) (CF.2.2.2.2 _ q1424) rfl ⟨by decide +kernel, by decide +kernel, by decide +kernel⟩ hR
theorem cw_L_9 {R : Room} {s : State} {m : MethodId} {p : Program} {c : Code} {cc : ByteArray} {nL : Nat} {args : Array Value} {D : tD} (CF : CallFix p m c cc nL s args lw_all RL) (hK : th_K D s) (hR : rm_X0_init.frames + 1 ≤ R.frames ∧ 8 + (2 + 11) + rm_X0_init.locals ≤ R.locals) : CallB R s args RL 9 yX0_init cX0_init 2 none (ws_ yX0_init cX0_init 2 ((Option.none : Option Jvm.ClassFile.FieldType))) rm_X0_init 4647 15938 0 ∧ yX0_init.name = "<init>" ∧ (Cond.instanceMethod yX0_init).before args s = true :=
  cwI 0 CF.2.2.2.2 (lw_meth q146) rfl rfl rfl (CF.2.2.2.2 _ q105) (CF.2.2.2.2 _ q144) (CF.2.2.2.2 _ q145) rfl ⟨by decide +kernel, by decide +kernel, by decide +kernel⟩ hR
theorem fn_L_7 {p : Program} {l : Launch} {e : Env} {R : Room} {s : State} {m : MethodId} {args : Array Value} {below : List Frame} {meth : Method} {c : Code} {H : Heap} {locs : List Loc} {cells slots : Nat} {Q : State → Prop} {cc : ByteArray} {pc : Nat} {ls : Array Slot} {rest : List Value} {D : tD} {B : Nat} {G : aH} {nL : Nat} (CF : CallFix p m c cc nL s args lw_all RL) (hK : th_K D s) (hR : th_H D B G H) (hS : va_S (th_A B) s.heap H locs) (hcells : cells + 1 ≤ R.cells) (hslots : slots + 14 ≤ R.slots) (hdg : decode cc pc = .ok (.new 7, 3)) (kk : ∀ (z : Nat) (G1 : aH) (H1 : Heap), z = a_sz G → G1 = a_nw G (0 + 1) 0 → th_H D B G1 H1 → va_S (th_A B) s.heap H1 locs → W p l e R s m args below meth c H1 locs (cells + 1) (slots + 14) Q (F0 m (pc + 3) ls (rv z :: rest))) : W p l e R s m args below meth c H locs cells slots Q (F0 m pc ls rest) :=
  th_new (C := RX0) (T := TX0) (N := 14) (ci := 0) CF.1 CF.2.1 CF.2.2.2.2 in_X0 tyX0_ok (by decide +kernel) CF.2.2.2.1 (CF.2.2.2.2 _ q142) rfl (CF.2.2.2.2 _ q143) (CF.2.2.2.2 _ q105) hK rfl hR hS hcells hslots hdg kk
theorem fn_L_10 {p : Program} {l : Launch} {e : Env} {R : Room} {s : State} {m : MethodId} {args : Array Value} {below : List Frame} {meth : Method} {c : Code} {H : Heap} {locs : List Loc} {cells slots : Nat} {Q : State → Prop} {cc : ByteArray} {pc : Nat} {ls : Array Slot} {rest : List Value} {D : tD} {B : Nat} {G : aH} {nL : Nat} (CF : CallFix p m c cc nL s args lw_all RL) (hK : th_K D s) (hR : th_H D B G H) (hS : va_S (th_A B) s.heap H locs) (hcells : cells + 1 ≤ R.cells) (hslots : slots + 23 ≤ R.slots) (hdg : decode cc pc = .ok (.new 10, 3)) (kk : ∀ (z : Nat) (G1 : aH) (H1 : Heap), z = a_sz G → G1 = a_nw G (8 + 1) 0 → th_H D B G1 H1 → va_S (th_A B) s.heap H1 locs → W p l e R s m args below meth c H1 locs (cells + 1) (slots + 23) Q (F0 m (pc + 3) ls (rv z :: rest))) : W p l e R s m args below meth c H locs cells slots Q (F0 m pc ls rest) :=
  th_new (C := RX8) (T := TX8) (N := 23) (ci := 8) CF.1 CF.2.1 CF.2.2.2.2 in_X8 tyX8_ok (by decide +kernel) CF.2.2.2.1 (CF.2.2.2.2 _ q1421) rfl (CF.2.2.2.2 _ q1422) (CF.2.2.2.2 _ q117) hK rfl hR hS hcells hslots hdg kk
