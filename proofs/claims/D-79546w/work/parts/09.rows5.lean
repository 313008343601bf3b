/-! ROWS, fifth: what the walks share -/
set_option maxRecDepth 100000
abbrev th_E (p : Program) (m : MethodId) (c : Code) (cc : ByteArray) (nL : Nat) (s : State) (args : Array Value) (own : String) (meth : Method) (ret : Option FieldType) (nm : String) (D : tD) (B : Nat) : Prop :=
  CallFix p m c cc nL s args lw_all own ∧ meth.sig.returnType = ret ∧ meth.locks = false ∧ meth.name = nm ∧ th_K D s ∧ th_St B s s.heap
theorem th_notab {c : Code} (h : ∀ x ∈ c.exceptionTable.toList, False) : c.exceptionTable.toList = tableOf [] := List.eq_nil_iff_forall_not_mem.mpr h
section ROWS
variable {p : Program} {l : Launch} {e : Env} {R : Room} {s : State} {m : MethodId} {args : Array Value} {below : List Frame} {meth : Method} {c : Code} {H : Heap} {locs : List Loc} {cells slots : Nat} {Q : State → Prop}
variable {cc : ByteArray} {pc : Nat} {ls : Array Slot} {rest : List Value} {D : tD} {B : Nat} {G : aH} {nL : Nat}
theorem th_athrowo {x : Nat} {cs : List Nat} (hx : p.tables.exec = Jvm.exec) (hb : c.code = cc) (hR : th_H D B G H) (ho : th_oo G x cs) (hdg : decode cc pc = .ok (.athrow, 1)) (k : vz_W p l e R s m args below meth c H locs cells slots Q (F0 m pc ls rest) x) : W p l e R s m args below meth c H locs cells slots Q (F0 m pc ls (rv x :: rest)) := by
  obtain ⟨ci, -, ho⟩ := ho
  exact th_athrow hx hb hR ho hdg k
theorem th_aast7 {a v : Nat} {i : Int32} (hx : p.tables.exec = Jvm.exec) (hb : c.code = cc) (hK : th_K D s) (hR : th_H D B G H) (hS : va_S (th_A B) s.heap H locs) (ha : th_ai G a 10 i) (ho : th_oo G v [13, 14, 15, 16, 17, 18, 19]) (hdg : decode cc pc = .ok (.aastore, 1))
    (kk : ∀ (G1 : aH) (H1 : Heap) (locs1 : List Loc), G1 = a_sr G a i.toNatClampNeg v → th_H D B G1 H1 → va_S (th_A B) s.heap H1 locs1 → W p l e R s m args below meth c H1 locs1 cells slots Q (F0 m (pc + 1) ls rest)) : W p l e R s m args below meth c H locs cells slots Q (F0 m pc ls (rv v :: .int i :: rv a :: rest)) := by
  obtain ⟨ci, hm, ho⟩ := ho
  have h3 : ci = 13 ∨ ci = 14 ∨ ci = 15 ∨ ci = 16 ∨ ci = 17 ∨ ci = 18 ∨ ci = 19 := by simpa using hm
  rcases h3 with h | h | h | h | h | h | h <;> subst h
  · exact th_aast hx hb hK 10 (by decide) rfl (ci := 13) rfl (Or.inr q1948) hR hS ha ho hdg kk
  · exact th_aast hx hb hK 10 (by decide) rfl (ci := 14) rfl (Or.inr q1949) hR hS ha ho hdg kk
  · exact th_aast hx hb hK 10 (by decide) rfl (ci := 15) rfl (Or.inr q1950) hR hS ha ho hdg kk
  · exact th_aast hx hb hK 10 (by decide) rfl (ci := 16) rfl (Or.inr q1951) hR hS ha ho hdg kk
  · exact th_aast hx hb hK 10 (by decide) rfl (ci := 17) rfl (Or.inr q1952) hR hS ha ho hdg kk
  · exact th_aast hx hb hK 10 (by decide) rfl (ci := 18) rfl (Or.inr q1953) hR hS ha ho hdg kk
  · exact th_aast hx hb hK 10 (by decide) rfl (ci := 19) rfl (Or.inr q1954) hR hS ha ho hdg kk
/-- the elements of an array of States: null or a State -/
def th_els (G : aH) (a : Nat) : Prop := ∀ k, k < (a_sh G a).2 → a_mr G a k = 0 ∨ th_o G (a_mr G a k) 1
theorem th_copyr (hx : p.tables.exec = Jvm.exec) (hb : c.code = cc) (hml : c.maxLocals = ls.size) {own : String} {index : Nat} (hown : s.vm.findClass own = some m.cls) (hlink : (Cond.methodLink own index arraycopyName).before args s = true) (hnat : (Cond.native arraycopyName).before args s = true) (hstat : (Cond.static arraycopyName).before args s = true) (hini : (Cond.initialized "java/lang/System").before args s = true) (hK : th_K D s) (hR : th_H D B G H) (hS : va_S (th_A B) s.heap H locs) {a0 a1 : Nat} {sp dp n : Int32} (hc : th_cpy G 9 a0 sp a1 dp n) (hel : th_els G a0)
    (hframes : 1 ≤ R.frames) (hc1 : th_c1 rest) (hlen : rest.length ≤ 8) (hlocals : 8 + (nativeFrameWords "java/lang/System" "arraycopy" 5 + 11) ≤ R.locals) (hdg : decode cc pc = .ok (.invokestatic index, 3))
    (kk : ∀ (G1 : aH) (H1 : Heap) (locs1 : List Loc), G1 = a_cr G a0 sp.toNatClampNeg a1 dp.toNatClampNeg n.toNatClampNeg → th_H D B G1 H1 → va_S (th_A B) s.heap H1 locs1 → W p l e R s m args below meth c H1 locs1 cells slots Q (F0 m (pc + 3) ls rest)) : W p l e R s m args below meth c H locs cells slots Q (F0 m pc ls (.int n :: .int dp :: rv a1 :: .int sp :: rv a0 :: rest)) := by
  obtain ⟨g0, g1, h1, h2, h3, h4, h5⟩ := hc
  have nz0 : (a_sh G a0).1 ≠ 0 := by omega
  have nz1 : (a_sh G a1).1 ≠ 0 := by omega
  rw [rv_pos (hR.pos nz0), rv_pos (hR.pos nz1)]
  have hA : th_A B a1 := hR.inA nz1
  have e0 : av 9 G a0 = fun i => rv (a_mr G a0 i) := rfl
  have e9 : av 9 G a1 = fun i => rv (a_mr G a1 i) := rfl
  have hc0 := th_acell hR (j := 9) (by decide) g0
  have hc1' := th_acell hR (j := 9) (by decide) g1
  rw [e0] at hc0
  rw [e9] at hc1'
  intro T hT X
  obtain ⟨kA, comp, k1, k2, k3, -⟩ := (hK.1.2 9 _ (TYS_at D (by decide))).2
  have hcell : ∀ k, k < (a_sh G a0).2 → a_mr G a0 k = 0 ∨ ∃ cell : Cell, H[a_mr G a0 k]? = some cell ∧ cell.vm = .none ∧ cell.cls = comp := fun k hk => by
    rcases hel k hk with h | h
    · exact Or.inl h
    · obtain ⟨cell, q1, q2, q3⟩ := th_ce hK hR h (q := (RX1, TX1, 10)) rfl
      exact Or.inr ⟨cell, q1, q2, Option.some.inj (q3.symm.trans k3)⟩
  obtain ⟨hfc, kC, hkC, hkind⟩ := (hK.1.1 1 (RX1, TX1, 10) rfl).2
  have hcls : D.1.1 1 = comp := Option.some.inj (hfc.symm.trans k3)
  obtain ⟨vm', X', step⟩ := X.arraycopy hx hown hlink hnat hstat hini (src := a0) (dst := a1) (cs := arrV (D.2 9) (a_sh G a0).2 (fun i => rv (a_mr G a0 i))) (cd := arrV (D.2 9) (a_sh G a1).2 (fun i => rv (a_mr G a1 i))) (srcPos := sp) (destPos := dp) (n := n) (by rw [hT]; exact hc0) (by rw [hT]; exact hc1')
    (fun _ h => by cases h) (fun _ h => by cases h) (fun h => by cases h) (fun h => by cases h) k1 k1 k2 k2 rfl h1 h2 h3
    (by rw [th_nn sp h1, th_nn n h3, arrV_size]; omega)
    (by rw [th_nn dp h2, th_nn n h3, arrV_size]; omega)
    (fun vm₁ hAl i hi => by
      have e : (arrV (D.2 9) (a_sh G a0).2 (fun i => rv (a_mr G a0 i))).slots.getD (sp.toNatClampNeg + i) .null = rv (a_mr G a0 (sp.toNatClampNeg + i)) := by
        rw [Array.getD_eq_getD_getElem?, arrV_read _ _ (by omega)]
        rfl
      refine ⟨?_, ?_⟩
      · rw [e]
        unfold rv
        split <;> rfl
      · rw [e]
        rcases hcell (sp.toNatClampNeg + i) (by omega) with h | ⟨cell, q1, q2, q3⟩
        · rw [h]; exact trivial
        · by_cases hz : a_mr G a0 (sp.toNatClampNeg + i) = 0
          · rw [hz]; exact trivial
          · rw [rv_pos hz]
            obtain ⟨-, k9, hk9, -⟩ := ((va_K.moved (u := s) (U := s.setVm vm₁) hAl hK.1).1 1 (RX1, TX1, 10) rfl).2
            rw [hcls] at hk9
            refine ⟨cell, by show T.heap[_]? = _; rw [hT]; exact q1, (fun q h => by rw [q2] at h; cases h), ?_, ?_, ?_⟩
            · rw [q3]; exact ⟨k9, hk9⟩
            · exact ⟨k9, hk9⟩
            · rw [q3]
              show vm₁.assignable comp comp = true
              rw [hAl.assignable]
              have := va_assign (hK.1.1 1 (RX1, TX1, 10) rfl).2
              rw [hcls] at this
              exact this)
    (g := F0 m pc ls (.int n :: .int dp :: .ref a1 :: .int sp :: .ref a0 :: rest)) rfl (by rw [hml]) (rest := rest) rfl (by rw [hb]; exact hdg) hframes (by show 2 * 0 + _ + _ ≤ _; rw [hc1.sum]; omega)
  have e1 : copied (arrV (D.2 9) (a_sh G a0).2 (fun i => rv (a_mr G a0 i))) (arrV (D.2 9) (a_sh G a1).2 (fun i => rv (a_mr G a1 i))) sp dp n = arrV (D.2 9) (a_sh G a1).2 (fun j => rv (va_cpy (a_mr G a0) (a_mr G a1) sp.toNatClampNeg dp.toNatClampNeg n.toNatClampNeg j)) := va_copied (fun z => rv z) (D.2 9) (D.2 9) (a_mr G a0) (a_mr G a1) h4
  rw [e1] at X' step
  have hl : a1 < H.size := (Array.getElem?_eq_some_iff.mp hc1').1
  have hheap : ((T.setVm vm').setCell a1 (arrV (D.2 9) (a_sh G a1).2 (fun j => rv (va_cpy (a_mr G a0) (a_mr G a1) sp.toNatClampNeg dp.toNatClampNeg n.toNatClampNeg j)))).heap = H.setIfInBounds a1 (arrV (D.2 9) (a_sh G a1).2 (fun j => rv (va_cpy (a_mr G a0) (a_mr G a1) sp.toNatClampNeg dp.toNatClampNeg n.toNatClampNeg j))) := by rw [← hT]; rfl
  generalize hv : arrV (D.2 9) (a_sh G a1).2 (fun j => rv (va_cpy (a_mr G a0) (a_mr G a1) sp.toNatClampNeg dp.toNatClampNeg n.toNatClampNeg j)) = nv at *
  have oq : ∀ q : Nat, q ≠ a1 → (H.setIfInBounds a1 nv)[q]? = H[q]? := fun q hq => by simp [Array.getElem?_setIfInBounds, Ne.symm hq]
  have osz : (H.setIfInBounds a1 nv).size = H.size := by simp
  have oat : (H.setIfInBounds a1 nv)[a1]? = some nv := by simp [Array.getElem?_setIfInBounds, hl]
  have hH1 : th_H D B (a_cr G a0 sp.toNatClampNeg a1 dp.toNatClampNeg n.toNatClampNeg) (H.setIfInBounds a1 nv) := by
    refine hR.upd a1 rfl rfl (fun _ _ _ => rfl) (fun z hz k => by rw [mr_cr, if_neg (fun q => hz q.1)]) osz oq ⟨fun ci q z1 z2 => ?_, fun j nn z1 z2 => ?_, fun ci z1 z2 => by rw [sh_cr] at z1; rw [z1] at g1; simp at g1; omega⟩
    · rw [sh_cr] at z1
      have hl9 := cls_lt z2
      rw [z1] at g1
      simp at g1
      omega
    · rw [sh_cr] at z1
      rw [z1] at g1
      have ej : j = 9 := by simp at g1; omega
      subst ej
      rw [oat, ← hv, z1]
      have ef : (fun j => rv (va_cpy (a_mr G a0) (a_mr G a1) sp.toNatClampNeg dp.toNatClampNeg n.toNatClampNeg j) : Nat → Value) = av 9 (a_cr G a0 sp.toNatClampNeg a1 dp.toNatClampNeg n.toNatClampNeg) a1 := by
        funext k
        show _ = rv (a_mr (a_cr G a0 sp.toNatClampNeg a1 dp.toNatClampNeg n.toNatClampNeg) a1 k)
        rw [mr_cr]
        unfold va_cpy
        by_cases hk : dp.toNatClampNeg ≤ k ∧ k < dp.toNatClampNeg + n.toNatClampNeg
        · rw [if_pos hk, if_pos ⟨rfl, hk⟩]
        · rw [if_neg hk, if_neg (fun q => hk q.2)]
      rw [ef]
  obtain ⟨t, x1, y1⟩ := kk _ _ _ rfl hH1 ⟨by rw [osz]; exact hS.1, fun q w1 w2 => by
      rw [oq q (fun z => w2 (by rw [z]; exact hA))]
      exact hS.2.1 q w1 w2, fun q hq => by
      rcases List.mem_append.mp hq with h | h
      · exact hS.2.2 q h
      · obtain ⟨z, -, hz⟩ := List.mem_map.mp h
        rw [← hz]
        exact hA⟩ _ hheap X'
  exact ⟨t, step t x1, y1⟩
theorem th_getCause (CF : CallFix p m c cc nL s args lw_all RX10) (hK : th_K D s) (hR : th_H D B G H) (hS : va_S (th_A B) s.heap H locs) {a : Nat} (ho : th_oo G a [9, 10, 11]) (hsz : ls.size = nL) (hc1 : th_c1 rest) (hlen : rest.length ≤ 8) (hfr : 1 ≤ R.frames) (hlo : 40 ≤ R.locals) (hdg : decode cc pc = .ok (.invokevirtual 19, 3))
    (kk : ∀ (r : Nat) (H1 : Heap) (locs1 : List Loc), r = (if a_mr G a 0 = a then 0 else a_mr G a 0) → th_H D B G H1 → va_S (th_A B) s.heap H1 locs1 → W p l e R s m args below meth c H1 locs1 cells slots Q (F0 m (pc + 3) ls (rv r :: rest))) : W p l e R s m args below meth c H locs cells slots Q (F0 m pc ls (rv a :: rest)) := by
  sorry
end ROWS
set_option maxRecDepth 100000
abbrev rm_X0_within : Room := { frames := 0, cells := 0, slots := 0, locals := 0 }
abbrev rm_X0_isParish : Room := { frames := 1, cells := 0, slots := 0, locals := 22 }
abbrev rm_X2_due : Room := { frames := 0, cells := 0, slots := 0, locals := 0 }
abbrev rm_X20_init : Room := { frames := 1, cells := 0, slots := 0, locals := 24 }
abbrev rm_X3_iterator : Room := { frames := 2, cells := 1, slots := 2, locals := 45 }
abbrev rm_X20_hasNext : Room := { frames := 0, cells := 0, slots := 0, locals := 0 }
abbrev rm_X20_next_2 : Room := { frames := 1, cells := 0, slots := 0, locals := 20 }
abbrev rm_X20_next : Room := { frames := 2, cells := 0, slots := 0, locals := 40 }
abbrev rm_X0_inBays : Room := { frames := 3, cells := 5, slots := 10, locals := 65 }
abbrev rm_X0_isAhead : Room := { frames := 1, cells := 0, slots := 0, locals := 22 }
abbrev rm_X0_rankOf : Room := { frames := 2, cells := 0, slots := 0, locals := 46 }
abbrev rm_X0_parishOf : Room := { frames := 4, cells := 5, slots := 10, locals := 93 }
abbrev rm_X0_overParishes : Room := { frames := 5, cells := 35, slots := 70, locals := 116 }
abbrev rm_X0_isKind : Room := { frames := 1, cells := 0, slots := 0, locals := 22 }
abbrev rm_X0_binOf : Room := { frames := 2, cells := 0, slots := 0, locals := 42 }
abbrev rm_X0_overBins : Room := { frames := 3, cells := 0, slots := 0, locals := 65 }
abbrev rm_X0_isPlace : Room := { frames := 1, cells := 0, slots := 0, locals := 22 }
abbrev rm_X0_placeOf : Room := { frames := 2, cells := 0, slots := 0, locals := 42 }
abbrev rm_X0_overPlaces : Room := { frames := 3, cells := 0, slots := 0, locals := 65 }
abbrev rm_J0_length : Room := { frames := 0, cells := 0, slots := 0, locals := 0 }
abbrev rm_J1_length : Room := { frames := 1, cells := 0, slots := 0, locals := 20 }
abbrev rm_X0_account : Room := { frames := 6, cells := 35, slots := 70, locals := 139 }
abbrev rm_J0_ensureCapacityInternal : Room := { frames := 0, cells := 0, slots := 0, locals := 0 }
abbrev rm_J0_isLatin1 : Room := { frames := 0, cells := 0, slots := 0, locals := 0 }
abbrev rm_J7_canEncode : Room := { frames := 0, cells := 0, slots := 0, locals := 0 }
abbrev rm_J0_append : Room := { frames := 1, cells := 0, slots := 0, locals := 22 }
abbrev rm_J1_append : Room := { frames := 2, cells := 0, slots := 0, locals := 43 }
abbrev rm_X0_append : Room := { frames := 3, cells := 0, slots := 0, locals := 64 }
abbrev rm_X0_isBay : Room := { frames := 1, cells := 0, slots := 0, locals := 22 }
abbrev rm_X0_pintsOf : Room := { frames := 0, cells := 0, slots := 0, locals := 0 }
abbrev rm_X1_pintsIn : Room := { frames := 3, cells := 1, slots := 2, locals := 65 }
abbrev rm_X0_bayOf : Room := { frames := 4, cells := 1, slots := 2, locals := 89 }
abbrev rm_X2_like : Room := { frames := 1, cells := 0, slots := 0, locals := 45 }
abbrev rm_X4_becomes : Room := { frames := 0, cells := 0, slots := 0, locals := 0 }
abbrev rm_X3_like : Room := { frames := 1, cells := 0, slots := 0, locals := 22 }
abbrev rm_X5_like : Room := { frames := 0, cells := 0, slots := 0, locals := 0 }
abbrev rm_X6_like : Room := { frames := 0, cells := 0, slots := 0, locals := 0 }
abbrev rm_X7_like : Room := { frames := 0, cells := 0, slots := 0, locals := 0 }
abbrev rm_X1_like : Room := { frames := 2, cells := 0, slots := 0, locals := 66 }
abbrev rm_X1_threshes : Room := { frames := 1, cells := 0, slots := 0, locals := 24 }
abbrev rm_X3_takes : Room := { frames := 0, cells := 0, slots := 0, locals := 0 }
abbrev rm_X1_isLeftIn : Room := { frames := 1, cells := 0, slots := 0, locals := 24 }
abbrev rm_X1_isLeftIn_2 : Room := { frames := 1, cells := 0, slots := 0, locals := 24 }
abbrev rm_X0_half : Room := { frames := 0, cells := 0, slots := 0, locals := 0 }
abbrev rm_X7_breeds : Room := { frames := 1, cells := 0, slots := 0, locals := 24 }
abbrev rm_X2_dropsFirst : Room := { frames := 0, cells := 0, slots := 0, locals := 0 }
abbrev rm_X2_passes : Room := { frames := 1, cells := 0, slots := 0, locals := 21 }
abbrev rm_X1_passes : Room := { frames := 2, cells := 0, slots := 0, locals := 48 }
abbrev rm_X0_eatenBy : Room := { frames := 3, cells := 0, slots := 0, locals := 88 }
abbrev rm_X0_bestCat : Room := { frames := 4, cells := 0, slots := 0, locals := 111 }
abbrev rm_X0_begins : Room := { frames := 3, cells := 0, slots := 0, locals := 88 }
abbrev rm_X0_all : Room := { frames := 0, cells := 0, slots := 0, locals := 0 }
abbrev rm_J9_init_2 : Room := { frames := 1, cells := 0, slots := 0, locals := 24 }
abbrev rm_J10_init : Room := { frames := 2, cells := 0, slots := 0, locals := 48 }
abbrev rm_X9_init : Room := { frames := 3, cells := 0, slots := 0, locals := 72 }
abbrev rm_X0_want : Room := { frames := 4, cells := 1, slots := 7, locals := 93 }
abbrev rm_X10_init_2 : Room := { frames := 3, cells := 0, slots := 0, locals := 72 }
abbrev rm_X10_init : Room := { frames := 4, cells := 0, slots := 0, locals := 95 }
abbrev rm_X0_allow : Room := { frames := 5, cells := 1, slots := 8, locals := 117 }
abbrev rm_X2_gives : Room := { frames := 1, cells := 0, slots := 0, locals := 24 }
abbrev rm_X3_puts : Room := { frames := 1, cells := 0, slots := 0, locals := 22 }
abbrev rm_X0_doCart : Room := { frames := 6, cells := 5, slots := 32, locals := 139 }
abbrev rm_X0_changed : Room := { frames := 3, cells := 0, slots := 0, locals := 88 }
abbrev rm_X0_notDone : Room := { frames := 3, cells := 0, slots := 0, locals := 88 }
abbrev rm_X0_cart : Room := { frames := 7, cells := 5, slots := 32, locals := 164 }
abbrev rm_X0_doCat : Room := { frames := 5, cells := 1, slots := 7, locals := 114 }
abbrev rm_X0_cat : Room := { frames := 6, cells := 1, slots := 7, locals := 136 }
abbrev rm_X3_clear : Room := { frames := 0, cells := 0, slots := 0, locals := 0 }
abbrev rm_X5_clear : Room := { frames := 0, cells := 0, slots := 0, locals := 0 }
abbrev rm_X6_clear : Room := { frames := 0, cells := 0, slots := 0, locals := 0 }
abbrev rm_X7_clear : Room := { frames := 0, cells := 0, slots := 0, locals := 0 }
abbrev rm_X1_clear : Room := { frames := 1, cells := 0, slots := 0, locals := 20 }
abbrev rm_X0_clear : Room := { frames := 2, cells := 0, slots := 0, locals := 44 }
abbrev rm_J0_setLength : Room := { frames := 1, cells := 0, slots := 0, locals := 22 }
abbrev rm_J1_setLength : Room := { frames := 2, cells := 0, slots := 0, locals := 43 }
abbrev rm_J13_stringSize : Room := { frames := 0, cells := 0, slots := 0, locals := 0 }
abbrev rm_J13_getChars : Room := { frames := 0, cells := 0, slots := 0, locals := 0 }
abbrev rm_J0_append_2 : Room := { frames := 1, cells := 0, slots := 0, locals := 26 }
abbrev rm_J1_append_2 : Room := { frames := 2, cells := 0, slots := 0, locals := 49 }
abbrev rm_X0_kindOfLot : Room := { frames := 0, cells := 0, slots := 0, locals := 0 }
abbrev rm_X0_signOf : Room := { frames := 0, cells := 0, slots := 0, locals := 0 }
abbrev rm_X0_describe : Room := { frames := 3, cells := 1, slots := 2, locals := 70 }
abbrev rm_X0_fault : Room := { frames := 0, cells := 0, slots := 0, locals := 0 }
abbrev rm_X0_isFloor : Room := { frames := 1, cells := 0, slots := 0, locals := 22 }
abbrev rm_X0_doFlails : Room := { frames := 5, cells := 2, slots := 14, locals := 114 }
abbrev rm_X0_flails : Room := { frames := 6, cells := 2, slots := 14, locals := 137 }
abbrev rm_X0_floorOf : Room := { frames := 2, cells := 0, slots := 0, locals := 42 }
abbrev rm_X0_cartedPints : Room := { frames := 1, cells := 0, slots := 0, locals := 20 }
abbrev rm_X0_inAllBays : Room := { frames := 4, cells := 5, slots := 10, locals := 89 }
abbrev rm_X0_onFloors : Room := { frames := 1, cells := 0, slots := 0, locals := 20 }
abbrev rm_X0_grain : Room := { frames := 5, cells := 5, slots := 10, locals := 114 }
abbrev rm_X0_grainAgain : Room := { frames := 5, cells := 5, slots := 10, locals := 114 }
abbrev rm_X2_tithe : Room := { frames := 0, cells := 0, slots := 0, locals := 0 }
abbrev rm_X2_owes : Room := { frames := 0, cells := 0, slots := 0, locals := 0 }
abbrev rm_X0_doHarvest : Room := { frames := 5, cells := 2, slots := 14, locals := 114 }
abbrev rm_X0_harvest : Room := { frames := 6, cells := 2, slots := 14, locals := 138 }
abbrev rm_X2_init : Room := { frames := 1, cells := 2, slots := 16, locals := 24 }
abbrev rm_X4_init_2 : Room := { frames := 1, cells := 0, slots := 0, locals := 24 }
abbrev rm_X4_init : Room := { frames := 2, cells := 0, slots := 0, locals := 46 }
abbrev rm_X3_init : Room := { frames := 3, cells := 62, slots := 182, locals := 66 }
abbrev rm_X5_init : Room := { frames := 1, cells := 0, slots := 0, locals := 24 }
abbrev rm_X6_init : Room := { frames := 1, cells := 0, slots := 0, locals := 24 }
abbrev rm_X7_init : Room := { frames := 1, cells := 0, slots := 0, locals := 24 }
abbrev rm_X1_init : Room := { frames := 4, cells := 356, slots := 1164, locals := 87 }
abbrev rm_J0_init : Room := { frames := 1, cells := 1, slots := 300, locals := 24 }
abbrev rm_J1_init : Room := { frames := 2, cells := 1, slots := 300, locals := 45 }
abbrev rm_X0_init : Room := { frames := 5, cells := 4647, slots := 15938, locals := 108 }
abbrev rm_X0_lasts : Room := { frames := 3, cells := 0, slots := 0, locals := 88 }
abbrev rm_X0_lotOf : Room := { frames := 2, cells := 0, slots := 0, locals := 42 }
abbrev rm_X0_meanRats : Room := { frames := 4, cells := 0, slots := 0, locals := 88 }
abbrev rm_X2_becomes : Room := { frames := 0, cells := 0, slots := 0, locals := 0 }
abbrev rm_X0_doParish : Room := { frames := 6, cells := 2, slots := 15, locals := 139 }
abbrev rm_X0_parish : Room := { frames := 7, cells := 2, slots := 15, locals := 160 }
abbrev rm_X0_doPass : Room := { frames := 5, cells := 1, slots := 7, locals := 114 }
abbrev rm_X0_pass : Room := { frames := 6, cells := 1, slots := 7, locals := 137 }
abbrev rm_X0_doPrice : Room := { frames := 5, cells := 2, slots := 14, locals := 114 }
abbrev rm_X0_price : Room := { frames := 6, cells := 2, slots := 14, locals := 137 }
abbrev rm_X0_ranked : Room := { frames := 3, cells := 0, slots := 0, locals := 69 }
abbrev rm_X10_behind : Room := { frames := 1, cells := 0, slots := 0, locals := 45 }
abbrev rm_X0_reason : Room := { frames := 2, cells := 0, slots := 0, locals := 68 }
abbrev rm_X0_restore : Room := { frames := 3, cells := 0, slots := 0, locals := 88 }
abbrev rm_X0_save : Room := { frames := 3, cells := 0, slots := 0, locals := 88 }
abbrev rm_J8_checkIndex : Room := { frames := 0, cells := 0, slots := 0, locals := 0 }
abbrev rm_J2_checkIndex : Room := { frames := 1, cells := 0, slots := 0, locals := 22 }
abbrev rm_J0_charAt : Room := { frames := 2, cells := 0, slots := 0, locals := 43 }
abbrev rm_J1_charAt : Room := { frames := 3, cells := 0, slots := 0, locals := 67 }
abbrev rm_X0_isHere : Room := { frames := 4, cells := 0, slots := 0, locals := 88 }
abbrev rm_X0_takesIf : Room := { frames := 5, cells := 0, slots := 0, locals := 110 }
abbrev rm_X11_init : Room := { frames := 3, cells := 0, slots := 0, locals := 72 }
abbrev rm_X0_digit : Room := { frames := 5, cells := 1, slots := 6, locals := 110 }
abbrev rm_X0_number : Room := { frames := 6, cells := 32, slots := 192, locals := 130 }
abbrev rm_X0_numberBehind : Room := { frames := 7, cells := 32, slots := 192, locals := 152 }
abbrev rm_X12_init : Room := { frames := 1, cells := 0, slots := 0, locals := 24 }
abbrev rm_X13_init : Room := { frames := 2, cells := 1, slots := 2, locals := 46 }
abbrev rm_X0_digitBehind : Room := { frames := 6, cells := 1, slots := 6, locals := 132 }
abbrev rm_X14_init : Room := { frames := 2, cells := 1, slots := 3, locals := 46 }
abbrev rm_X15_init : Room := { frames := 2, cells := 1, slots := 3, locals := 46 }
abbrev rm_X0_kindSign : Room := { frames := 6, cells := 1, slots := 6, locals := 132 }
abbrev rm_X16_init : Room := { frames := 2, cells := 1, slots := 3, locals := 46 }
abbrev rm_X17_init : Room := { frames := 2, cells := 1, slots := 1, locals := 46 }
abbrev rm_X18_init : Room := { frames := 2, cells := 1, slots := 1, locals := 46 }
abbrev rm_X19_init : Room := { frames := 2, cells := 1, slots := 1, locals := 46 }
abbrev rm_X0_shortCommand : Room := { frames := 7, cells := 34, slots := 198, locals := 152 }
abbrev rm_X0_command : Room := { frames := 8, cells := 36, slots := 212, locals := 173 }
abbrev rm_X0_readsScript : Room := { frames := 9, cells := 1117, slots := 6578, locals := 195 }
abbrev rm_X13_done : Room := { frames := 6, cells := 7, slots := 48, locals := 138 }
abbrev rm_X14_done : Room := { frames := 7, cells := 7, slots := 48, locals := 164 }
abbrev rm_X0_otherKind : Room := { frames := 1, cells := 0, slots := 0, locals := 21 }
abbrev rm_X0_doThresh : Room := { frames := 6, cells := 7, slots := 48, locals := 139 }
abbrev rm_X15_done : Room := { frames := 7, cells := 7, slots := 48, locals := 168 }
abbrev rm_X0_doSell : Room := { frames := 5, cells := 5, slots := 32, locals := 117 }
abbrev rm_X16_done : Room := { frames := 6, cells := 7, slots := 48, locals := 143 }
abbrev rm_X17_done : Room := { frames := 6, cells := 7, slots := 48, locals := 137 }
abbrev rm_X18_done : Room := { frames := 6, cells := 7, slots := 48, locals := 136 }
abbrev rm_X0_doStop : Room := { frames := 6, cells := 2, slots := 15, locals := 139 }
abbrev rm_X19_done : Room := { frames := 7, cells := 7, slots := 48, locals := 160 }
abbrev rm_X0_doScript : Room := { frames := 8, cells := 225, slots := 1544, locals := 188 }
abbrev rm_X0_script : Room := { frames := 10, cells := 1342, slots := 8122, locals := 218 }
abbrev rm_X0_sell : Room := { frames := 6, cells := 5, slots := 32, locals := 143 }
abbrev rm_X0_doSettle : Room := { frames := 6, cells := 4, slots := 24, locals := 139 }
abbrev rm_X0_settle : Room := { frames := 7, cells := 4, slots := 24, locals := 162 }
abbrev rm_X0_share : Room := { frames := 6, cells := 35, slots := 70, locals := 139 }
abbrev rm_X0_stop : Room := { frames := 7, cells := 2, slots := 15, locals := 160 }
abbrev rm_X0_thresh : Room := { frames := 7, cells := 7, slots := 48, locals := 168 }
abbrev rm_X0_tithe : Room := { frames := 2, cells := 0, slots := 0, locals := 43 }
abbrev rm_X0_titheAgain : Room := { frames := 2, cells := 0, slots := 0, locals := 43 }
abbrev rm_X0_undo : Room := { frames := 3, cells := 0, slots := 0, locals := 88 }
abbrev rm_X0_written : Room := { frames := 4, cells := 0, slots := 0, locals := 88 }
abbrev rm_X8_of : Room := { frames := 0, cells := 0, slots := 0, locals := 0 }
abbrev rm_X8_dueOf : Room := { frames := 1, cells := 0, slots := 0, locals := 22 }
abbrev rm_X8_total : Room := { frames := 2, cells := 0, slots := 0, locals := 45 }
abbrev rm_X8_inBay : Room := { frames := 0, cells := 0, slots := 0, locals := 0 }
abbrev rm_X8_allInBays : Room := { frames := 1, cells := 0, slots := 0, locals := 21 }
abbrev rm_X8_floor : Room := { frames := 0, cells := 0, slots := 0, locals := 0 }
abbrev rm_X8_onFloors : Room := { frames := 1, cells := 0, slots := 0, locals := 22 }
abbrev rm_X8_sheaf : Room := { frames := 0, cells := 0, slots := 0, locals := 0 }
abbrev rm_X8_kindOf : Room := { frames := 1, cells := 0, slots := 0, locals := 22 }
abbrev rm_X8_pints : Room := { frames := 0, cells := 0, slots := 0, locals := 0 }
abbrev rm_X8_pintsIn : Room := { frames := 2, cells := 0, slots := 0, locals := 44 }
abbrev rm_X8_store : Room := { frames := 0, cells := 0, slots := 0, locals := 0 }
abbrev rm_X8_sum : Room := { frames := 3, cells := 0, slots := 0, locals := 67 }
abbrev rm_X8_allAt : Room := { frames := 0, cells := 0, slots := 0, locals := 0 }
abbrev rm_X8_bushels : Room := { frames := 1, cells := 0, slots := 0, locals := 22 }
abbrev rm_X8_account : Room := { frames := 4, cells := 0, slots := 0, locals := 90 }
abbrev rm_X8_isIn : Room := { frames := 0, cells := 0, slots := 0, locals := 0 }
abbrev rm_X8_append : Room := { frames := 1, cells := 0, slots := 0, locals := 22 }
abbrev rm_X8_isBay : Room := { frames := 1, cells := 0, slots := 0, locals := 22 }
abbrev rm_X8_lotsOf : Room := { frames := 1, cells := 0, slots := 0, locals := 22 }
abbrev rm_X8_parishesIn : Room := { frames := 1, cells := 0, slots := 0, locals := 22 }
abbrev rm_X8_bayOf : Room := { frames := 3, cells := 0, slots := 0, locals := 67 }
abbrev rm_X8_copies : Room := { frames := 0, cells := 0, slots := 0, locals := 0 }
abbrev rm_X8_threshedOn : Room := { frames := 1, cells := 0, slots := 0, locals := 24 }
abbrev rm_X8_rats : Room := { frames := 0, cells := 0, slots := 0, locals := 0 }
abbrev rm_X8_takes : Room := { frames := 1, cells := 0, slots := 0, locals := 21 }
abbrev rm_X8_eatInBay : Room := { frames := 2, cells := 0, slots := 0, locals := 44 }
abbrev rm_X8_eatInBin : Room := { frames := 1, cells := 0, slots := 0, locals := 24 }
abbrev rm_X8_eats : Room := { frames := 3, cells := 0, slots := 0, locals := 67 }
abbrev rm_X8_dropsDue : Room := { frames := 0, cells := 0, slots := 0, locals := 0 }
abbrev rm_X8_falls : Room := { frames := 1, cells := 0, slots := 0, locals := 23 }
abbrev rm_X8_day : Room := { frames := 4, cells := 0, slots := 0, locals := 90 }
abbrev rm_X8_eatenWith : Room := { frames := 5, cells := 0, slots := 0, locals := 112 }
abbrev rm_X8_bestCat : Room := { frames := 6, cells := 0, slots := 0, locals := 135 }
abbrev rm_X8_isKind : Room := { frames := 1, cells := 0, slots := 0, locals := 22 }
abbrev rm_X8_binOf : Room := { frames := 2, cells := 0, slots := 0, locals := 42 }
abbrev rm_X8_starts : Room := { frames := 1, cells := 0, slots := 0, locals := 24 }
abbrev rm_X8_isParish : Room := { frames := 1, cells := 0, slots := 0, locals := 22 }
abbrev rm_X8_refuses : Room := { frames := 0, cells := 0, slots := 0, locals := 0 }
abbrev rm_X8_carts : Room := { frames := 2, cells := 0, slots := 0, locals := 45 }
abbrev rm_X8_keeps : Room := { frames := 0, cells := 0, slots := 0, locals := 0 }
abbrev rm_X8_keepsWhy : Room := { frames := 1, cells := 0, slots := 0, locals := 23 }
abbrev rm_X8_remembers : Room := { frames := 1, cells := 0, slots := 0, locals := 24 }
abbrev rm_X8_ends : Room := { frames := 2, cells := 0, slots := 0, locals := 46 }
abbrev rm_X8_cart : Room := { frames := 3, cells := 0, slots := 0, locals := 70 }
abbrev rm_X8_isPlace : Room := { frames := 1, cells := 0, slots := 0, locals := 22 }
abbrev rm_X8_comes : Room := { frames := 2, cells := 0, slots := 0, locals := 42 }
abbrev rm_X8_cat : Room := { frames := 3, cells := 0, slots := 0, locals := 67 }
abbrev rm_X8_begins : Room := { frames := 0, cells := 0, slots := 0, locals := 0 }
abbrev rm_X8_clear : Room := { frames := 1, cells := 0, slots := 0, locals := 21 }
abbrev rm_X8_put : Room := { frames := 0, cells := 0, slots := 0, locals := 0 }
abbrev rm_X8_writes : Room := { frames := 1, cells := 0, slots := 0, locals := 22 }
abbrev rm_X8_lotSize : Room := { frames := 1, cells := 0, slots := 0, locals := 22 }
abbrev rm_X8_describe : Room := { frames := 2, cells := 0, slots := 0, locals := 46 }
abbrev rm_X8_fault : Room := { frames := 0, cells := 0, slots := 0, locals := 0 }
abbrev rm_X8_isFloor : Room := { frames := 1, cells := 0, slots := 0, locals := 22 }
abbrev rm_X8_becomes : Room := { frames := 2, cells := 0, slots := 0, locals := 46 }
abbrev rm_X8_flails : Room := { frames := 3, cells := 0, slots := 0, locals := 69 }
abbrev rm_X8_floorOf : Room := { frames := 2, cells := 0, slots := 0, locals := 42 }
abbrev rm_X8_grain : Room := { frames := 4, cells := 0, slots := 0, locals := 90 }
abbrev rm_X8_grainAgain : Room := { frames := 4, cells := 0, slots := 0, locals := 90 }
abbrev rm_X8_becomeDue : Room := { frames := 1, cells := 0, slots := 0, locals := 22 }
abbrev rm_X8_harvests : Room := { frames := 2, cells := 0, slots := 0, locals := 44 }
abbrev rm_X8_harvest : Room := { frames := 3, cells := 0, slots := 0, locals := 69 }
abbrev rm_X8_init : Room := { frames := 1, cells := 12, slots := 5786, locals := 24 }
abbrev rm_X8_lasts : Room := { frames := 5, cells := 0, slots := 0, locals := 112 }
abbrev rm_X8_lotAt : Room := { frames := 1, cells := 0, slots := 0, locals := 22 }
abbrev rm_X8_lotOf : Room := { frames := 2, cells := 0, slots := 0, locals := 46 }
abbrev rm_X8_meanRats : Room := { frames := 1, cells := 0, slots := 0, locals := 23 }
abbrev rm_X8_parish : Room := { frames := 3, cells := 0, slots := 0, locals := 67 }
abbrev rm_X8_inBays : Room := { frames := 1, cells := 0, slots := 0, locals := 22 }
abbrev rm_X8_isAhead : Room := { frames := 2, cells := 0, slots := 0, locals := 45 }
abbrev rm_X8_rankOf : Room := { frames := 3, cells := 0, slots := 0, locals := 67 }
abbrev rm_X8_parishOf : Room := { frames := 4, cells := 0, slots := 0, locals := 90 }
abbrev rm_X8_passes : Room := { frames := 5, cells := 0, slots := 0, locals := 112 }
abbrev rm_X8_pass : Room := { frames := 6, cells := 0, slots := 0, locals := 135 }
abbrev rm_X8_placeOf : Room := { frames := 2, cells := 0, slots := 0, locals := 42 }
abbrev rm_X8_price : Room := { frames := 3, cells := 0, slots := 0, locals := 69 }
abbrev rm_X8_ranked : Room := { frames := 4, cells := 0, slots := 0, locals := 90 }
abbrev rm_X8_reason : Room := { frames := 1, cells := 0, slots := 0, locals := 22 }
abbrev rm_X8_restore : Room := { frames := 1, cells := 0, slots := 0, locals := 24 }
abbrev rm_X8_save : Room := { frames := 1, cells := 0, slots := 0, locals := 24 }
abbrev rm_X8_sign : Room := { frames := 0, cells := 0, slots := 0, locals := 0 }
abbrev rm_X8_reads : Room := { frames := 1, cells := 0, slots := 0, locals := 22 }
abbrev rm_X8_tells : Room := { frames := 0, cells := 0, slots := 0, locals := 0 }
abbrev rm_X8_number : Room := { frames := 2, cells := 0, slots := 0, locals := 44 }
abbrev rm_X8_readsKind : Room := { frames := 1, cells := 0, slots := 0, locals := 20 }
abbrev rm_X8_readsSale : Room := { frames := 3, cells := 0, slots := 0, locals := 66 }
abbrev rm_X8_readsCommand : Room := { frames := 4, cells := 0, slots := 0, locals := 87 }
abbrev rm_X8_readsAll : Room := { frames := 5, cells := 0, slots := 0, locals := 109 }
abbrev rm_X8_unlike : Room := { frames := 2, cells := 0, slots := 0, locals := 44 }
abbrev rm_X8_threshes : Room := { frames := 3, cells := 0, slots := 0, locals := 69 }
abbrev rm_X8_sells : Room := { frames := 2, cells := 0, slots := 0, locals := 42 }
abbrev rm_X8_stops : Room := { frames := 2, cells := 0, slots := 0, locals := 42 }
abbrev rm_X8_does : Room := { frames := 6, cells := 0, slots := 0, locals := 135 }
abbrev rm_X8_script : Room := { frames := 7, cells := 0, slots := 0, locals := 159 }
abbrev rm_X8_sell : Room := { frames := 3, cells := 0, slots := 0, locals := 68 }
abbrev rm_X8_settles : Room := { frames := 2, cells := 0, slots := 0, locals := 43 }
abbrev rm_X8_settle : Room := { frames := 3, cells := 0, slots := 0, locals := 67 }
abbrev rm_X8_share : Room := { frames := 3, cells := 0, slots := 0, locals := 68 }
abbrev rm_X8_stop : Room := { frames := 3, cells := 0, slots := 0, locals := 67 }
abbrev rm_X8_thresh : Room := { frames := 4, cells := 0, slots := 0, locals := 94 }
abbrev rm_X8_tithe : Room := { frames := 2, cells := 0, slots := 0, locals := 44 }
abbrev rm_X8_titheAgain : Room := { frames := 3, cells := 0, slots := 0, locals := 66 }
abbrev rm_X8_undo : Room := { frames := 1, cells := 0, slots := 0, locals := 24 }
abbrev rm_X8_written : Room := { frames := 1, cells := 0, slots := 0, locals := 22 }
