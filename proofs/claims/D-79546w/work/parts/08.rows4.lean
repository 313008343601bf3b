/-! ROWS, fourth: super, statics, natives, fields out of view -/
set_option maxRecDepth 100000
theorem th_cf {x : Nat} {l : List Value} (h : th_c1 l) : th_c1 (.ref x :: l) := fun v hv => by
  rcases List.mem_cons.mp hv with rfl | hv
  · rfl
  · exact h v hv
theorem th_selpriv {C : String} {y : MethodName} {s : State} {args : Array Value} (hC : ∃ c, s.vm.findClass C = some c) (hy : y.cls ≠ "java/lang/invoke/MethodHandle" ∧ y.cls ≠ "java/lang/invoke/VarHandle")
    (hpriv : (Cond.privateMethod y).before args s = true) (hinst : (Cond.instanceMethod y).before args s = true) (hsame : (Cond.sameMethod y.cls y.cls y.name y.desc).before args s = true) : (Cond.selects C y y).before args s = true := by
  obtain ⟨c, hc⟩ := hC
  obtain ⟨mk, methM, hnamed, hmethM, -, -⟩ := Cond.instanceMethod_spec hinst
  have hfound : s.methodFound? y.cls y.name y.desc = some mk := State.methodFound?_of_named hnamed hy
  obtain ⟨-, k, hk, hni⟩ := Cond.sameMethod_spec (findClass_of_methodNamed hnamed) hfound hsame
  have hsel : selectMethod {} s.vm c mk = .method mk := selectMethod_private hmethM (Cond.privateMethod_at hpriv mk methM hnamed hmethM)
  simp only [Cond.before, Cond.holds, Cond.value, hc, hfound, hnamed, hsel, hk]
  simp; exact hni
theorem lw_U {own : String} {idx : Nat} {C owner : String} {x y : MethodName} {b : ByteArray} {L : Nat} {r : Option FieldType} (h1 : Cond.methodLink own idx x ∈ lw_all) (h2 : Cond.sameMethod x.cls owner x.name x.desc ∈ lw_all) (h3 : Cond.selects C x y ∈ lw_all) (h4 : Cond.instanceMethod y ∈ lw_all) (h5 : Cond.initialized y.cls ∈ lw_all) (h6 : Cond.code y b L r ∈ lw_all) : GoodIn lw_all (va_wsU own idx C owner x y (ws_ y b L r)) := by
  refine lw_app ?_ (lw_meth h6)
  intro w hw
  simp only [List.mem_cons, List.not_mem_nil, or_false] at hw
  rcases hw with e | e | e | e | e <;> rw [e] <;> assumption
theorem lw_F {own : String} {idx : Nat} {C : String} {x y : MethodName} {b : ByteArray} {L : Nat} {r : Option FieldType} (h1 : Cond.methodLink own idx x ∈ lw_all) (h3 : Cond.selects C x y ∈ lw_all) (h4 : Cond.instanceMethod y ∈ lw_all) (h5 : Cond.initialized y.cls ∈ lw_all) (h6 : Cond.code y b L r ∈ lw_all) : GoodIn lw_all (va_wsF own idx C x y (ws_ y b L r)) := by
  refine lw_app ?_ (lw_meth h6)
  intro w hw
  simp only [List.mem_cons, List.not_mem_nil, or_false] at hw
  rcases hw with e | e | e | e <;> rw [e] <;> assumption
theorem lw_SU {own : String} {idx : Nat} {y : MethodName} {b : ByteArray} {L : Nat} {r : Option FieldType} (h1 : Cond.methodLink own idx y ∈ lw_all) (h2 : Cond.sameMethod y.cls y.cls y.name y.desc ∈ lw_all) (h3 : Cond.superclass own y.cls ∈ lw_all) (h4 : Cond.instanceMethod y ∈ lw_all) (h5 : Cond.initialized y.cls ∈ lw_all) (h6 : Cond.code y b L r ∈ lw_all) : GoodIn lw_all (va_wsSU own idx y (ws_ y b L r)) := by
  refine lw_app ?_ (lw_meth h6)
  intro w hw
  simp only [List.mem_cons, List.not_mem_nil, or_false] at hw
  rcases hw with e | e | e | e | e <;> rw [e] <;> assumption
/-- the name of a value -/
theorem th_nmi {p : Program} {l : Launch} {e : Env} {R : Room} {s : State} {m : MethodId} {args : Array Value} {below : List Frame} {meth : Method} {c : Code} {H : Heap} {locs : List Loc} {cells slots : Nat} {Q : State → Prop} {pc : Nat} {ls : Array Slot} {rest : List Value} {x v : Int32} (h : v = x) (k : W p l e R s m args below meth c H locs cells slots Q (F0 m pc ls (.int v :: rest))) : W p l e R s m args below meth c H locs cells slots Q (F0 m pc ls (.int x :: rest)) := h ▸ k
theorem th_nmr {p : Program} {l : Launch} {e : Env} {R : Room} {s : State} {m : MethodId} {args : Array Value} {below : List Frame} {meth : Method} {c : Code} {H : Heap} {locs : List Loc} {cells slots : Nat} {Q : State → Prop} {pc : Nat} {ls : Array Slot} {rest : List Value} {x v : Nat} (h : v = x) (k : W p l e R s m args below meth c H locs cells slots Q (F0 m pc ls (rv v :: rest))) : W p l e R s m args below meth c H locs cells slots Q (F0 m pc ls (rv x :: rest)) := h ▸ k
theorem th_sw {x : Int32} {n : Int32} {k : Int} (h : ¬ x = n) (hk : n.toInt = k) : x.toInt ≠ k := fun q => h (Int32.toInt_inj.mp (q.trans hk.symm))
/-- null or a reference -/
def th_nr (v : Value) : Prop := v = .null ∨ ∃ t, v = .ref t
theorem th_nr.cat {v : Value} (h : th_nr v) : v.category = 1 := by
  rcases h with h | ⟨t, h⟩ <;> subst h <;> rfl
theorem th_nrv (x : Nat) : th_nr (rv x) := by unfold rv; split; exact Or.inl rfl; exact Or.inr ⟨_, rfl⟩
theorem th_fitn {v : Value} {n : String} (h : th_nr v) : fits (.object n) v = true := by
  rcases h with h | ⟨t, h⟩ <;> subst h <;> rfl
theorem th_fita {v : Value} {n : FieldType} (h : th_nr v) : fits (.array n) v = true := by
  rcases h with h | ⟨t, h⟩ <;> subst h <;> rfl
theorem th_cg {x : Value} {l : List Value} (hx : x.category = 1) (h : th_c1 l) : th_c1 (x :: l) := fun v hv => by
  rcases List.mem_cons.mp hv with rfl | hv
  · exact hx
  · exact h v hv
def th_cpy (G : aH) (j a : Nat) (sp : Int32) (b : Nat) (dp n : Int32) : Prop := (a_sh G a).1 = 100 + j ∧ (a_sh G b).1 = 100 + j ∧ ¬ sp < 0 ∧ ¬ dp < 0 ∧ ¬ n < 0 ∧ sp.toNatClampNeg + n.toNatClampNeg ≤ (a_sh G a).2 ∧ dp.toNatClampNeg + n.toNatClampNeg ≤ (a_sh G b).2
theorem th_putU_cell {D : tD} {B : Nat} {G : aH} {H H1 : Heap} {a ci sl : Nat} {q : vw_C} {cell : Cell} {v : Value} (hR : th_H D B G H) (ho : th_o G a ci) (hc : CLS[ci]? = some q) (hap : ∀ j, j < q.2.2 → sl ≠ D.1.2 ci j)
    (q1 : H[a]? = some cell) (q2 : cell.cls = D.1.1 ci) (q3 : cell.vm = .none) (q4 : ∀ j, j < q.2.2 → cell.slots[D.1.2 ci j]? = some (cv ci G a j)) (e1 : H1[a]? = some (cell.setSlot sl v)) (e2 : H1.size = H.size) (e3 : ∀ z : Nat, z ≠ a → H1[z]? = H[z]?) : th_H D B G H1 := by
  refine hR.upd a rfl rfl (fun _ _ _ => rfl) (fun _ _ _ => rfl) e2 e3 ⟨fun ci' q' g1 g2 => ?_, fun j n g1 g2 => ?_, fun ci' g1 g2 => ((hR.2.2.2.2 a).2.2 ci' g1 g2).set q1 e1⟩
  · have e : ci' = ci := by
      have := g1.symm.trans ho
      simp at this
      exact this
    subst e
    cases hc.symm.trans g2
    exact ⟨_, e1, q2, q3, fun j hj => by rw [slot_ne _ _ (hap j hj)]; exact q4 j hj⟩
  · have := g1.symm.trans ho
    have hl := cls_lt hc
    simp at this
    omega
section ROWS
variable {p : Program} {l : Launch} {e : Env} {R : Room} {s : State} {m : MethodId} {args : Array Value} {below : List Frame} {meth : Method} {c : Code} {H : Heap} {locs : List Loc} {cells slots : Nat} {Q : State → Prop}
variable {cc : ByteArray} {pc : Nat} {ls : Array Slot} {rest : List Value} {D : tD} {B : Nat} {G : aH} {nL : Nat}
variable {y : MethodName} {bytes : ByteArray} {maxL mc ms n index : Nat} {ret : Option FieldType} {ws : List Cond} {rm : Room} {Qc : Array Value → State → Outcome → State → Prop} {own : String} {b ci : Nat} {q : vw_C} {As st0 : List Value} {w : aH → Prop} {a : Array Value}
theorem th_rSU (hC : CallFix p m c cc nL s args lw_all own) (hK : th_K D s) (hSt : th_St B s s.heap) (hR : th_H D B G H) (hS : va_S (th_A B) s.heap H locs) (ho : th_o G b ci) (hq : CLS[ci]? = some q) (hM : Met l y ws rm (th_P D B (rv b :: As) w) Qc mc ms (th_A B)) (cw : va_CS R s args own index y bytes maxL ret ws rm mc ms n) (hw : w G)
    (hn : As.length = n) (hsz : ls.size = nL) (hst : st0 = As.reverse ++ rv b :: rest) (hc1 : th_c1 rest) (hlen : rest.length ≤ 8) (hdg : decode cc pc = .ok (.invokespecial index, 3)) (hf : cells + mc ≤ R.cells ∧ slots + ms ≤ R.slots) :
    va_Run p l e R s m args below meth c H locs cells slots mc ms (F0 m pc ls st0) rest (Qc (rv b :: As).toArray) (th_A B) := by
  have h := va_runSU (e := e) (below := below) (meth := meth) (As := As) (rest := rest) (g := F0 m pc ls st0) (H := H) (locs := locs) (hK.1.1 ci q hq).2 hC hM cw (th_preV hK hSt hR hS ho hq hw) rfl hn hsz (by rw [← rv_pos (hR.pos ho.nz)]; exact hst) (th_w8 hc1 hlen) hdg hf
  rw [← rv_pos (hR.pos ho.nz)] at h
  exact h
theorem th_objInit {b idx : Nat} (hx : p.tables.exec = Jvm.exec) (hb : c.code = cc) {own : String} (hown : s.vm.findClass own = some m.cls) (hlink : (Cond.methodLink own idx Lib.objectInit).before args s = true) (hinst : (Cond.instanceMethod Lib.objectInit).before args s = true) (hcode : (Cond.code Lib.objectInit ⟨#[0xb1]⟩ 1 none).before args s = true) (hsize : ls.size = c.maxLocals) (hR : th_H D B G H) (hb0 : (a_sh G b).1 ≠ 0) (hc1 : th_c1 rest) (hlen : rest.length ≤ 8) (hframes : 1 ≤ R.frames) (hloc : 20 ≤ R.locals) (hd : decode cc pc = .ok (.invokespecial idx, 3))
    (kk : W p l e R s m args below meth c H locs cells slots Q (F0 m (pc + 3) ls rest)) : W p l e R s m args below meth c H locs cells slots Q (F0 m pc ls (rv b :: rest)) := by
  rw [rv_pos (hR.pos hb0)]
  refine W.objInit hx hb hown hlink hinst hcode rfl hsize rfl hd hframes ?_ kk
  show 2 * 0 + _ + 12 ≤ _
  rw [hc1.sum]
  omega
theorem th_getsq (hx : p.tables.exec = Jvm.exec) (hb : c.code = cc) {C n d own ref : String} {index : Nat} (hZ : va_Zq C n d (th_A B) s s.heap) (hS : va_S (th_A B) s.heap H locs) (hown : s.vm.findClass own = some m.cls) (hlink : (Cond.fieldLink own index ref n d).before args s = true) (hsame : ∀ x, s.fieldFound? C n d = some x → s.fieldFound? ref n d = some x) (hdg : decode cc pc = .ok (.getstatic index, 3))
    (kk : ∀ v : Value, th_nr v → W p l e R s m args below meth c H locs cells slots Q (F0 m (pc + 3) ls (v :: rest))) : W p l e R s m args below meth c H locs cells slots Q (F0 m pc ls rest) := by
  rcases hZ with h | ⟨t, h⟩
  · exact va_gets hx hb h hS hown hlink hsame hdg (kk _ (Or.inl rfl))
  · exact va_gets hx hb h hS hown hlink hsame hdg (kk _ (Or.inr ⟨_, rfl⟩))
theorem th_tld (hx : p.tables.exec = Jvm.exec) (hb : c.code = cc) {t N : Nat} {f : Nat → Value} (hT : va_T .byte t N f (th_A B) s s.heap) (hS : va_S (th_A B) s.heap H locs) {i : Int32} {v : Value} (hi : ¬ i < 0 ∧ i.toNatClampNeg < N) (hv : f i.toNatClampNeg = v) (hdg : decode cc pc = .ok (.baload, 1))
    (kk : W p l e R s m args below meth c H locs cells slots Q (F0 m (pc + 1) ls (v :: rest))) : W p l e R s m args below meth c H locs cells slots Q (F0 m pc ls (.int i :: .ref t :: rest)) := by
  obtain ⟨cell, h1, h2, h3, h4, -, h6, h7⟩ := hT
  refine W.bald (v := v) hx hb (by rw [hS.2.1 t (Array.getElem?_eq_some_iff.mp h1).1 h7]; exact h1) h2 h3 ?_ (by rw [h6 _ hi.2, hv]) rfl rfl hdg kk
  intro z
  rcases z with z | z
  · exact hi.1 z
  · have := hi.2
    omega
theorem th_slotlt {a ci sl : Nat} {q : vw_C} {cell : Cell} {sn : Nat} {C : String} {cC : ClassId} {kC : Class} {ty : FieldType} (hR : th_H D B G H) (ho : th_o G a ci) (hc : CLS[ci]? = some q) (q1 : H[a]? = some cell) (hSZ : sn = SZ ci) (hinst : (Cond.instantiable C sn).before args s = true) (hfc : s.vm.findClass C = some cC) (hkC : s.vm.classes[cC]? = some kC) (h9 : kC.instanceTypes[sl]? = some ty) : sl < cell.slots.size := by
  obtain ⟨c', k', h1, h2, -, -, -, h3⟩ := Cond.instantiable_spec hinst
  cases hfc.symm.trans h1
  cases hkC.symm.trans h2
  obtain ⟨c, g1, g2, -⟩ := (hR.2.2.2.2 a).2.2 ci ho (cls_lt hc)
  cases g1.symm.trans q1
  have := (Array.getElem?_eq_some_iff.mp h9).1
  omega
theorem th_putU (hx : p.tables.exec = Jvm.exec) (hb : c.code = cc) {own ref C O f d : String} {T : u_T} {N ci index a : Nat} {ty : FieldType} (hts : ∀ w ∈ lw_all, w.before args s = true) (hin : ∀ w ∈ u_ws C T N, w ∈ lw_all) (tyT : Nat → FieldType) (htyT : ∀ k, k < N → parseFieldDescriptor (T k).2.2.1 = some (tyT k)) (hown : s.vm.findClass own = some m.cls) (hK : th_K D s) (hc : CLS[ci]? = some (C, T, N))
    {sn : Nat} (hSZ : sn = SZ ci) (hinst : (Cond.instantiable C sn).before args s = true) (hlay : Cond.lays C O f d ∈ lw_all) (hne : ∀ j, j < N → f ≠ (T j).2.1) (hd : parseFieldDescriptor d = some ty) (hlink : (Cond.fieldLink own index ref f d).before args s = true) (hsame : ∀ x, s.fieldFound? O f d = some x → s.fieldFound? ref f d = some x) {v : Value} (hn : narrow ty v = v) (hfit : fits ty v = true) (hR : th_H D B G H) (hS0 : va_S (th_A B) s.heap H locs) (ho : th_o G a ci) (hdg : decode cc pc = .ok (.putfield index, 3))
    (kk : ∀ (H1 : Heap) (locs1 : List Loc), th_H D B G H1 → va_S (th_A B) s.heap H1 locs1 → W p l e R s m args below meth c H1 locs1 cells slots Q (F0 m (pc + 3) ls rest)) : W p l e R s m args below meth c H locs cells slots Q (F0 m pc ls (v :: rv a :: rest)) := by
  rw [rv_pos (hR.pos ho.nz)]
  obtain ⟨cell, q1, q2, q3, q4⟩ := (hR.2.2.2.2 a).1 ci _ ho hc
  obtain ⟨hS, hfc, kC, hkC, hkind⟩ := hK.1.1 ci _ hc
  have hlay := hts _ hlay
  obtain ⟨_, _, _, _, _, fd, _, _, hi, _, _, _, _, _⟩ := Cond.lays_spec hlay
  have hst := (u_facts hfc hkC (Or.inl hlay) hi).1
  have h6 := u_store hfc hkC hkind hlay hi hd hn hfit
  have hap : ∀ j, j < N → fd.slot ≠ D.1.2 ci j := fun j hj => by
    obtain ⟨_, _, _, fb, hib, eb⟩ := hS j hj
    rw [← eb]
    refine u_apart (Or.inl hlay) (u_lays hts hin hj) hi hib ?_
    rw [(State.fieldFound?_type hi hd).1, (State.fieldFound?_type hib (htyT j hj)).1]
    exact hne j hj
  have hlt : fd.slot < cell.slots.size := by
    have h9 := (u_facts hfc hkC (Or.inl hlay) hi).2.2
    exact th_slotlt hR ho hc q1 hSZ hinst hfc hkC h9
  refine W.putK hx hb (f := fd) ⟨hown, hlink, ⟨_, _, _, hsame _ hi⟩, hst⟩ (by rw [q2]; exact h6) q1 q3 hlt rfl rfl hdg fun H' e1 e2 e3 => ?_
  exact kk H' _ (th_putU_cell hR ho hc hap q1 q2 q3 q4 e1 e2 e3) (hS0.put e2 e3 (hR.inA ho.nz))
theorem th_putUF (hx : p.tables.exec = Jvm.exec) (hb : c.code = cc) {own ref C O f d : String} {T : u_T} {N ci index a : Nat} {ty : FieldType} (hts : ∀ w ∈ lw_all, w.before args s = true) (hin : ∀ w ∈ u_ws C T N, w ∈ lw_all) (tyT : Nat → FieldType) (htyT : ∀ k, k < N → parseFieldDescriptor (T k).2.2.1 = some (tyT k)) (hown : s.vm.findClass own = some m.cls) (hK : th_K D s) (hc : CLS[ci]? = some (C, T, N))
    {sn : Nat} (hSZ : sn = SZ ci) (hinst : (Cond.instantiable C sn).before args s = true) (hlay : Cond.laysFinal C O f d ∈ lw_all) (hne : ∀ j, j < N → f ≠ (T j).2.1 ∨ ((T j).2.2.2 = true ∧ O ≠ (T j).1)) (hd : parseFieldDescriptor d = some ty) (hin2 : meth.name = "<init>") (hdecl : O = own) (hlink : (Cond.fieldLink own index ref f d).before args s = true) (hsame : ∀ x, s.fieldFound? O f d = some x → s.fieldFound? ref f d = some x) {v : Value} (hn : narrow ty v = v) (hfit : fits ty v = true) (hR : th_H D B G H) (hS0 : va_S (th_A B) s.heap H locs) (ho : th_o G a ci) (hdg : decode cc pc = .ok (.putfield index, 3))
    (kk : ∀ (H1 : Heap) (locs1 : List Loc), th_H D B G H1 → va_S (th_A B) s.heap H1 locs1 → W p l e R s m args below meth c H1 locs1 cells slots Q (F0 m (pc + 3) ls rest)) : W p l e R s m args below meth c H locs cells slots Q (F0 m pc ls (v :: rv a :: rest)) := by
  rw [rv_pos (hR.pos ho.nz)]
  obtain ⟨cell, q1, q2, q3, q4⟩ := (hR.2.2.2.2 a).1 ci _ ho hc
  obtain ⟨hS, hfc, kC, hkC, hkind⟩ := hK.1.1 ci _ hc
  have hlay := hts _ hlay
  obtain ⟨_, _, cf, _, _, fd, _, _, hi, _, _, _, hown2, _⟩ := Cond.laysFinal_spec hlay
  have hst := (u_facts hfc hkC (Or.inr hlay) hi).1
  have hcf : m.cls = cf := by
    rw [hdecl] at hown2
    exact Option.some.inj (hown.symm.trans hown2)
  have h6 := u_fits hfc hkC hkind (Or.inr hlay) hi hd hn hfit
  have hap : ∀ j, j < N → fd.slot ≠ D.1.2 ci j := fun j hj => by
    obtain ⟨_, _, _, fb, hib, eb⟩ := hS j hj
    rw [← eb]
    rcases hne j hj with h | ⟨h1, h2⟩
    · refine u_apart (Or.inr hlay) (u_lays hts hin hj) hi hib ?_
      rw [(State.fieldFound?_type hi hd).1, (State.fieldFound?_type hib (htyT j hj)).1]
      exact h
    · have g2 := hts _ (hin _ (u_in_lay hj))
      unfold u_lay at g2
      rw [if_pos h1] at g2
      exact th_apartF hlay g2 hi hib h2
  have hlt : fd.slot < cell.slots.size := by
    have h9 := (u_facts hfc hkC (Or.inr hlay) hi).2.2
    exact th_slotlt hR ho hc q1 hSZ hinst hfc hkC h9
  refine W.putFinK hx hb hown hlink (hsame _ hi) hst hcf hin2 (by rw [q2]; exact h6) q1 q3 hlt rfl rfl hdg fun H' e1 e2 e3 => ?_
  exact kk H' _ (th_putU_cell hR ho hc hap q1 q2 q3 q4 e1 e2 e3) (hS0.put e2 e3 (hR.inA ho.nz))
theorem th_nn (z : Int32) (hz : ¬ z < 0) : z.toInt = (z.toNatClampNeg : Int) := by
  have hz0 : (0 : Int) ≤ z.toInt := by
    have := Int32.not_lt.mp hz
    simpa using Int32.le_iff_toInt_le.mp this
  show z.toInt = ((z.toInt.toNat : Nat) : Int)
  omega
theorem th_copyi (hx : p.tables.exec = Jvm.exec) (hb : c.code = cc) (hml : c.maxLocals = ls.size) {own : String} {index : Nat} (hown : s.vm.findClass own = some m.cls) (hlink : (Cond.methodLink own index arraycopyName).before args s = true) (hnat : (Cond.native arraycopyName).before args s = true) (hstat : (Cond.static arraycopyName).before args s = true) (hini : (Cond.initialized "java/lang/System").before args s = true) (hK : th_K D s) (hR : th_H D B G H) (hS : va_S (th_A B) s.heap H locs) {a0 a1 : Nat} {sp dp n : Int32} (hc : th_cpy G 0 a0 sp a1 dp n)
    (hframes : 1 ≤ R.frames) (hc1 : th_c1 rest) (hlen : rest.length ≤ 8) (hlocals : 8 + (nativeFrameWords "java/lang/System" "arraycopy" 5 + 11) ≤ R.locals) (hdg : decode cc pc = .ok (.invokestatic index, 3))
    (kk : ∀ (G1 : aH) (H1 : Heap) (locs1 : List Loc), G1 = a_cp G a0 sp.toNatClampNeg a1 dp.toNatClampNeg n.toNatClampNeg → th_H D B G1 H1 → va_S (th_A B) s.heap H1 locs1 → W p l e R s m args below meth c H1 locs1 cells slots Q (F0 m (pc + 3) ls rest)) : W p l e R s m args below meth c H locs cells slots Q (F0 m pc ls (.int n :: .int dp :: rv a1 :: .int sp :: rv a0 :: rest)) := by
  obtain ⟨g0, g1, h1, h2, h3, h4, h5⟩ := hc
  have nz0 : (a_sh G a0).1 ≠ 0 := by omega
  have nz1 : (a_sh G a1).1 ≠ 0 := by omega
  rw [rv_pos (hR.pos nz0), rv_pos (hR.pos nz1)]
  have hA : th_A B a1 := hR.inA nz1
  have e0 : av 0 G a0 = fun i => .int (a_mi G a0 i) := rfl
  have e9 : av 0 G a1 = fun i => .int (a_mi G a1 i) := rfl
  have hc0 := th_acell hR (j := 0) (by decide) g0
  have hc1' := th_acell hR (j := 0) (by decide) g1
  rw [e0] at hc0
  rw [e9] at hc1'
  intro T hT X
  obtain ⟨-, k0, hk0, cm0, hkk0⟩ := (hK.arr (j := 0) (by decide)) (a_sh G a0).2 (fun i => .int (a_mi G a0 i))
  obtain ⟨-, k1, hk1, cm1, hkk1⟩ := (hK.arr (j := 0) (by decide)) (a_sh G a1).2 (fun i => .int (a_mi G a1 i))
  obtain ⟨vm', X', step⟩ := X.arraycopy hx hown hlink hnat hstat hini (src := a0) (dst := a1) (cs := arrV (D.2 0) (a_sh G a0).2 (fun i => .int (a_mi G a0 i))) (cd := arrV (D.2 0) (a_sh G a1).2 (fun i => .int (a_mi G a1 i))) (srcPos := sp) (destPos := dp) (n := n) (by rw [hT]; exact hc0) (by rw [hT]; exact hc1')
    (fun _ h => by cases h) (fun _ h => by cases h) (fun h => by cases h) (fun h => by cases h) hk0 hk1 hkk0 hkk1 rfl h1 h2 h3
    (by rw [th_nn sp h1, th_nn n h3, arrV_size]; omega)
    (by rw [th_nn dp h2, th_nn n h3, arrV_size]; omega)
    (fun vm₁ _ i hi => by
      have e : (arrV (D.2 0) (a_sh G a0).2 (fun i => .int (a_mi G a0 i))).slots.getD (sp.toNatClampNeg + i) .null = .int (a_mi G a0 (sp.toNatClampNeg + i)) := by
        rw [Array.getD_eq_getD_getElem?, arrV_read _ _ (by omega)]
        rfl
      refine ⟨?_, ?_⟩
      · rw [e]
        rfl
      · rw [e]
        exact trivial)
    (g := F0 m pc ls (.int n :: .int dp :: .ref a1 :: .int sp :: .ref a0 :: rest)) rfl (by rw [hml]) (rest := rest) rfl (by rw [hb]; exact hdg) hframes (by show 2 * 0 + _ + _ ≤ _; rw [hc1.sum]; omega)
  have e1 : copied (arrV (D.2 0) (a_sh G a0).2 (fun i => .int (a_mi G a0 i))) (arrV (D.2 0) (a_sh G a1).2 (fun i => .int (a_mi G a1 i))) sp dp n = arrV (D.2 0) (a_sh G a1).2 (fun j => .int (va_cpy (a_mi G a0) (a_mi G a1) sp.toNatClampNeg dp.toNatClampNeg n.toNatClampNeg j)) := va_copied (fun z => .int z) (D.2 0) (D.2 0) (a_mi G a0) (a_mi G a1) h4
  rw [e1] at X' step
  have hl : a1 < H.size := (Array.getElem?_eq_some_iff.mp hc1').1
  have hheap : ((T.setVm vm').setCell a1 (arrV (D.2 0) (a_sh G a1).2 (fun j => .int (va_cpy (a_mi G a0) (a_mi G a1) sp.toNatClampNeg dp.toNatClampNeg n.toNatClampNeg j)))).heap = H.setIfInBounds a1 (arrV (D.2 0) (a_sh G a1).2 (fun j => .int (va_cpy (a_mi G a0) (a_mi G a1) sp.toNatClampNeg dp.toNatClampNeg n.toNatClampNeg j))) := by rw [← hT]; rfl
  generalize hv : arrV (D.2 0) (a_sh G a1).2 (fun j => .int (va_cpy (a_mi G a0) (a_mi G a1) sp.toNatClampNeg dp.toNatClampNeg n.toNatClampNeg j)) = nv at *
  have oq : ∀ q : Nat, q ≠ a1 → (H.setIfInBounds a1 nv)[q]? = H[q]? := fun q hq => by simp [Array.getElem?_setIfInBounds, Ne.symm hq]
  have osz : (H.setIfInBounds a1 nv).size = H.size := by simp
  have oat : (H.setIfInBounds a1 nv)[a1]? = some nv := by simp [Array.getElem?_setIfInBounds, hl]
  have hH1 : th_H D B (a_cp G a0 sp.toNatClampNeg a1 dp.toNatClampNeg n.toNatClampNeg) (H.setIfInBounds a1 nv) := by
    refine hR.upd a1 rfl rfl (fun z hz k => by rw [mi_cp, if_neg (fun q => hz q.1)]) (fun _ _ _ => rfl) osz oq ⟨fun ci q z1 z2 => ?_, fun j nn z1 z2 => ?_, fun ci z1 z2 => by rw [sh_cp] at z1; rw [z1] at g1; simp at g1; omega⟩
    · rw [sh_cp] at z1
      have hl9 := cls_lt z2
      rw [z1] at g1
      simp at g1
      omega
    · rw [sh_cp] at z1
      rw [z1] at g1
      have ej : j = 0 := by simp at g1; omega
      subst ej
      rw [oat, ← hv, z1]
      have ef : (fun j => .int (va_cpy (a_mi G a0) (a_mi G a1) sp.toNatClampNeg dp.toNatClampNeg n.toNatClampNeg j) : Nat → Value) = av 0 (a_cp G a0 sp.toNatClampNeg a1 dp.toNatClampNeg n.toNatClampNeg) a1 := by
        funext k
        show _ = Value.int (a_mi (a_cp G a0 sp.toNatClampNeg a1 dp.toNatClampNeg n.toNatClampNeg) a1 k)
        rw [mi_cp]
        unfold va_cpy
        by_cases hk : dp.toNatClampNeg ≤ k ∧ k < dp.toNatClampNeg + n.toNatClampNeg
        · rw [if_pos hk, if_pos ⟨rfl, hk⟩]
        · rw [if_neg hk, if_neg (fun q => hk q.2)]
      rw [ef]
  obtain ⟨t, x1, y1⟩ := kk _ _ _ rfl hH1 ⟨by rw [osz]; exact hS.1, fun q w1 w2 => by
      rw [oq q (fun z => w2 (by rw [z]; exact hA))]
      exact hS.2.1 q w1 w2, fun q hq => by
      rcases List.mem_append.mp hq with h | h
      · exact hS.2.2 q h
      · obtain ⟨z, -, hz⟩ := List.mem_map.mp h
        rw [← hz]
        exact hA⟩ _ hheap X'
  exact ⟨t, step t x1, y1⟩
end ROWS
