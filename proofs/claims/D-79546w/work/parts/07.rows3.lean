/-! ROWS, third: methods that throw, and catching -/
set_option maxRecDepth 100000
section ROWS
variable {p : Program} {l : Launch} {e : Env} {R : Room} {s : State} {m : MethodId} {args : Array Value} {below : List Frame} {meth : Method} {c : Code} {H : Heap} {locs : List Loc} {cells slots : Nat} {Q : State → Prop}
variable {cc : ByteArray} {pc : Nat} {ls : Array Slot} {rest : List Value} {D : tD} {B : Nat} {G : aH} {nL : Nat}
variable {y : MethodName} {bytes : ByteArray} {maxL mc ms n index : Nat} {ret : Option FieldType} {ws : List Cond} {rm : Room} {Qc : Array Value → State → Outcome → State → Prop} {XC : Addr → String → State → State → Prop} {own : String} {b ci : Nat} {q : vw_C} {As st0 : List Value} {w : aH → Prop} {a : Array Value}
theorem th_XrV (hC : CallFix p m c cc nL s args lw_all own) (hK : th_K D s) (hSt : th_St B s s.heap) (hR : th_H D B G H) (hS : va_S (th_A B) s.heap H locs) (ho : th_o G b ci) (hq : CLS[ci]? = some q) (hM : vz_Met l y ws rm (th_P D B (rv b :: As) w) Qc XC mc ms (th_A B)) (cw : CallW R s args own q.1 index y bytes maxL ret ws rm mc ms n) (hw : w G)
    (hn : As.length = n) (hsz : ls.size = nL) (hst : st0 = As.reverse ++ rv b :: rest) (hc1 : th_c1 rest) (hlen : rest.length ≤ 8) (hdg : decode cc pc = .ok (.invokevirtual index, 3)) (hf : cells + mc ≤ R.cells ∧ slots + ms ≤ R.slots) :
    vz_Run p l e R s m args below meth c H locs cells slots mc ms (F0 m pc ls st0) rest (Qc (rv b :: As).toArray) XC (th_A B) := by
  have h := vz_runV (e := e) (below := below) (meth := meth) (As := As) (rest := rest) (g := F0 m pc ls st0) (H := H) (locs := locs) hC hM cw (th_preV hK hSt hR hS ho hq hw) rfl hn hsz (by rw [← rv_pos (hR.pos ho.nz)]; exact hst) (th_w8 hc1 hlen) hdg hf
  rw [← rv_pos (hR.pos ho.nz)] at h
  exact h
theorem th_XrVX {hh : List (Nat × Nat × Nat × Nat)} (hC : CallFix p m c cc nL s args lw_all own) (hK : th_K D s) (hSt : th_St B s s.heap) (hR : th_H D B G H) (hS : va_S (th_A B) s.heap H locs) (ho : th_o G b ci) (hq : CLS[ci]? = some q) (hM : vz_Met l y ws rm (th_P D B (rv b :: As) w) Qc XC mc ms (th_A B)) (cw : vz_CVW R s args own q.1 index y bytes maxL ret hh ws rm mc ms n) (hw : w G)
    (hn : As.length = n) (hsz : ls.size = nL) (hst : st0 = As.reverse ++ rv b :: rest) (hc1 : th_c1 rest) (hlen : rest.length ≤ 8) (hdg : decode cc pc = .ok (.invokevirtual index, 3)) (hf : cells + mc ≤ R.cells ∧ slots + ms ≤ R.slots) :
    vz_Run p l e R s m args below meth c H locs cells slots mc ms (F0 m pc ls st0) rest (Qc (rv b :: As).toArray) XC (th_A B) := by
  have h := vz_runVX (e := e) (below := below) (meth := meth) (As := As) (rest := rest) (g := F0 m pc ls st0) (H := H) (locs := locs) hC hM cw (th_preV hK hSt hR hS ho hq hw) rfl hn hsz (by rw [← rv_pos (hR.pos ho.nz)]; exact hst) (th_w8 hc1 hlen) hdg hf
  rw [← rv_pos (hR.pos ho.nz)] at h
  exact h
theorem th_XrVN {host : String} (hC : CallFix p m c cc nL s args lw_all own) (hK : th_K D s) (hSt : th_St B s s.heap) (hR : th_H D B G H) (hS : va_S (th_A B) s.heap H locs) (ho : th_o G b ci) (hq : CLS[ci]? = some q) (hM : vz_Met l y ws rm (th_P D B (rv b :: As) w) Qc XC mc ms (th_A B)) (cw : va_CN R s args own index y host bytes maxL ret ws rm mc ms n ∧ (Cond.instanceMethod y).before args s = true ∧ (Cond.selects q.1 y y).before args s = true) (hw : w G)
    (hn : As.length = n) (hsz : ls.size = nL) (hst : st0 = As.reverse ++ rv b :: rest) (hc1 : th_c1 rest) (hlen : rest.length ≤ 8) (hdg : decode cc pc = .ok (.invokevirtual index, 3)) (hf : cells + mc ≤ R.cells ∧ slots + ms ≤ R.slots) :
    vz_Run p l e R s m args below meth c H locs cells slots mc ms (F0 m pc ls st0) rest (Qc (rv b :: As).toArray) XC (th_A B) := by
  have h := vz_runVN (e := e) (below := below) (meth := meth) (As := As) (rest := rest) (g := F0 m pc ls st0) (H := H) (locs := locs) hC hM cw (th_preV hK hSt hR hS ho hq hw) rfl hn hsz (by rw [← rv_pos (hR.pos ho.nz)]; exact hst) (th_w8 hc1 hlen) hdg hf
  rw [← rv_pos (hR.pos ho.nz)] at h
  exact h
theorem th_XrU {owner : String} {x : MethodName} (hC : CallFix p m c cc nL s args lw_all own) (hK : th_K D s) (hSt : th_St B s s.heap) (hR : th_H D B G H) (hS : va_S (th_A B) s.heap H locs) (ho : th_o G b ci) (hq : CLS[ci]? = some q) (hM : vz_Met l y ws rm (th_P D B (rv b :: As) w) Qc XC mc ms (th_A B)) (cw : va_CU R s args own q.1 owner index x y bytes maxL ret ws rm mc ms n) (hw : w G)
    (hn : As.length = n) (hsz : ls.size = nL) (hst : st0 = As.reverse ++ rv b :: rest) (hc1 : th_c1 rest) (hlen : rest.length ≤ 8) (hdg : decode cc pc = .ok (.invokevirtual index, 3)) (hf : cells + mc ≤ R.cells ∧ slots + ms ≤ R.slots) :
    vz_Run p l e R s m args below meth c H locs cells slots mc ms (F0 m pc ls st0) rest (Qc (rv b :: As).toArray) XC (th_A B) := by
  have h := vz_runU (e := e) (below := below) (meth := meth) (As := As) (rest := rest) (g := F0 m pc ls st0) (H := H) (locs := locs) hC hM cw (th_preV hK hSt hR hS ho hq hw) rfl hn hsz (by rw [← rv_pos (hR.pos ho.nz)]; exact hst) (th_w8 hc1 hlen) hdg hf
  rw [← rv_pos (hR.pos ho.nz)] at h
  exact h
theorem th_XrS (hC : CallFix p m c cc nL s args lw_all own) (hK : th_K D s) (hSt : th_St B s s.heap) (hR : th_H D B G H) (hS : va_S (th_A B) s.heap H locs) (hM : vz_Met l y ws rm (th_P D B As w) Qc XC mc ms (th_A B)) (cw : CallB R s args own index y bytes maxL ret ws rm mc ms n ∧ (Cond.static y).before args s = true) (hw : w G)
    (hn : As.length = n) (hsz : ls.size = nL) (hst : st0 = As.reverse ++ rest) (hc1 : th_c1 rest) (hlen : rest.length ≤ 8) (hdg : decode cc pc = .ok (.invokestatic index, 3)) (hf : cells + mc ≤ R.cells ∧ slots + ms ≤ R.slots) :
    vz_Run p l e R s m args below meth c H locs cells slots mc ms (F0 m pc ls st0) rest (Qc As.toArray) XC (th_A B) :=
  vz_runS (As := As) (rest := rest) (g := F0 m pc ls st0) (H := H) (locs := locs) hC hM cw (th_preS hK hSt hR hS hw) rfl hn hsz hst (th_w8 hc1 hlen) hdg hf
theorem th_Xki {K : Int32 → aH → Prop} {X : Nat → aH → Prop} (hS : va_S (th_A B) s.heap H locs) (hr : vz_Run p l e R s m args below meth c H locs cells slots mc ms (F0 m pc ls st0) rest (th_Qi D B K a) (th_X D B X) (th_A B))
    (kx : ∀ (x : Nat) (G1 : aH) (H1 : Heap) (locs1 : List Loc), X x G1 → th_oo G1 x [9, 10, 11] → th_H D B G1 H1 → va_S (th_A B) s.heap H1 locs1 → vz_W p l e R s m args below meth c H1 locs1 (cells + mc) (slots + ms) Q (F0 m pc ls rest) x)
    (kk : ∀ (r : Int32) (G1 : aH) (H1 : Heap) (locs1 : List Loc), K r G1 → th_H D B G1 H1 → va_S (th_A B) s.heap H1 locs1 → W p l e R s m args below meth c H1 locs1 (cells + mc) (slots + ms) Q (F0 m (pc + 3) ls (.int r :: rest))) : W p l e R s m args below meth c H locs cells slots Q (F0 m pc ls st0) := by
  intro T hT X
  rcases hr T hT X with ⟨v, st₀, t, T', L, h0, X', hL, e1, e2, ⟨⟨r, u, hv, hp, hb⟩, hF⟩, st⟩ | ⟨q, st₀, t, T', L, E, ce, h0, X', hL, e1, e2, ⟨⟨u, hp, hb, ho⟩, hF⟩, hce, hcv, hcl, st⟩
  · cases hv
    obtain ⟨k1, k2, k3⟩ := vz_keep h0 e1 hS (fun _ _ h => h) (fun _ h => h) hL hF
    obtain ⟨t2, a1, b1⟩ := kk r u T'.heap (locs ++ L) hp (by rw [e1]; exact hb) k3 T' rfl X'
    exact ⟨t2, st t2 a1, b1⟩
  · obtain ⟨k1, k2, k3⟩ := vz_keep h0 e1 hS (fun _ _ h => h) (fun _ h => h) hL hF
    obtain ⟨t2, a1, b1⟩ := kx q u T'.heap (locs ++ L) hp ho (by rw [e1]; exact hb) k3 T' rfl X'
    exact ⟨t2, st.trans a1, b1⟩
theorem th_Xkv {K : aH → Prop} {X : Nat → aH → Prop} (hS : va_S (th_A B) s.heap H locs) (hr : vz_Run p l e R s m args below meth c H locs cells slots mc ms (F0 m pc ls st0) rest (th_Qv D B K a) (th_X D B X) (th_A B))
    (kx : ∀ (x : Nat) (G1 : aH) (H1 : Heap) (locs1 : List Loc), X x G1 → th_oo G1 x [9, 10, 11] → th_H D B G1 H1 → va_S (th_A B) s.heap H1 locs1 → vz_W p l e R s m args below meth c H1 locs1 (cells + mc) (slots + ms) Q (F0 m pc ls rest) x)
    (kk : ∀ (G1 : aH) (H1 : Heap) (locs1 : List Loc), K G1 → th_H D B G1 H1 → va_S (th_A B) s.heap H1 locs1 → W p l e R s m args below meth c H1 locs1 (cells + mc) (slots + ms) Q (F0 m (pc + 3) ls rest)) : W p l e R s m args below meth c H locs cells slots Q (F0 m pc ls st0) := by
  intro T hT X
  rcases hr T hT X with ⟨v, st₀, t, T', L, h0, X', hL, e1, e2, ⟨⟨u, hv, hp, hb⟩, hF⟩, st⟩ | ⟨q, st₀, t, T', L, E, ce, h0, X', hL, e1, e2, ⟨⟨u, hp, hb, ho⟩, hF⟩, hce, hcv, hcl, st⟩
  · cases hv
    obtain ⟨k1, k2, k3⟩ := vz_keep h0 e1 hS (fun _ _ h => h) (fun _ h => h) hL hF
    obtain ⟨t2, a1, b1⟩ := kk u T'.heap (locs ++ L) hp (by rw [e1]; exact hb) k3 T' rfl X'
    exact ⟨t2, st t2 a1, b1⟩
  · obtain ⟨k1, k2, k3⟩ := vz_keep h0 e1 hS (fun _ _ h => h) (fun _ h => h) hL hF
    obtain ⟨t2, a1, b1⟩ := kx q u T'.heap (locs ++ L) hp ho (by rw [e1]; exact hb) k3 T' rfl X'
    exact ⟨t2, st.trans a1, b1⟩
theorem th_Xkr {K : Nat → aH → Prop} {X : Nat → aH → Prop} (hS : va_S (th_A B) s.heap H locs) (hr : vz_Run p l e R s m args below meth c H locs cells slots mc ms (F0 m pc ls st0) rest (th_Qr D B K a) (th_X D B X) (th_A B))
    (kx : ∀ (x : Nat) (G1 : aH) (H1 : Heap) (locs1 : List Loc), X x G1 → th_oo G1 x [9, 10, 11] → th_H D B G1 H1 → va_S (th_A B) s.heap H1 locs1 → vz_W p l e R s m args below meth c H1 locs1 (cells + mc) (slots + ms) Q (F0 m pc ls rest) x)
    (kk : ∀ (r : Nat) (G1 : aH) (H1 : Heap) (locs1 : List Loc), K r G1 → th_H D B G1 H1 → va_S (th_A B) s.heap H1 locs1 → W p l e R s m args below meth c H1 locs1 (cells + mc) (slots + ms) Q (F0 m (pc + 3) ls (rv r :: rest))) : W p l e R s m args below meth c H locs cells slots Q (F0 m pc ls st0) := by
  intro T hT X
  rcases hr T hT X with ⟨v, st₀, t, T', L, h0, X', hL, e1, e2, ⟨⟨r, u, hv, hp, hb⟩, hF⟩, st⟩ | ⟨q, st₀, t, T', L, E, ce, h0, X', hL, e1, e2, ⟨⟨u, hp, hb, ho⟩, hF⟩, hce, hcv, hcl, st⟩
  · cases hv
    obtain ⟨k1, k2, k3⟩ := vz_keep h0 e1 hS (fun _ _ h => h) (fun _ h => h) hL hF
    obtain ⟨t2, a1, b1⟩ := kk r u T'.heap (locs ++ L) hp (by rw [e1]; exact hb) k3 T' rfl X'
    exact ⟨t2, st t2 a1, b1⟩
  · obtain ⟨k1, k2, k3⟩ := vz_keep h0 e1 hS (fun _ _ h => h) (fun _ h => h) hL hF
    obtain ⟨t2, a1, b1⟩ := kx q u T'.heap (locs ++ L) hp ho (by rw [e1]; exact hb) k3 T' rfl X'
    exact ⟨t2, st.trans a1, b1⟩
/-- one of the three that are thrown: its cell, its class -/
theorem th_ooce {x : Nat} (hK : th_K D s) (hR : th_H D B G H) (ho : th_oo G x [9, 10, 11]) : ∃ (E : String) (ce : Cell), H[x]? = some ce ∧ ce.vm = .none ∧ s.vm.findClass E = some ce.cls := by
  obtain ⟨ci, hm, ho⟩ := ho
  have h3 : ci = 9 ∨ ci = 10 ∨ ci = 11 := by simpa using hm
  rcases h3 with h | h | h <;> subst h
  · obtain ⟨ce, h1, h2, h3⟩ := th_ce hK hR ho (q := (RX9, TE9, 2)) rfl
    exact ⟨_, ce, h1, h2, h3⟩
  · obtain ⟨ce, h1, h2, h3⟩ := th_ce hK hR ho (q := (RX10, TE10, 3)) rfl
    exact ⟨_, ce, h1, h2, h3⟩
  · obtain ⟨ce, h1, h2, h3⟩ := th_ce hK hR ho (q := (RX11, TE11, 1)) rfl
    exact ⟨_, ce, h1, h2, h3⟩
/-- it goes on to the caller -/
theorem th_out {X : Nat → aH → Prop} {x : Nat} (hK : th_K D s) (hlk : meth.locks = false) (hout : ∀ z ∈ c.exceptionTable.toList, covers z pc = false) (hR : th_H D B G H) (hS : va_S (th_A B) s.heap H locs) (hx : X x G) (ho : th_oo G x [9, 10, 11]) (h1 : cells ≤ mc) (h2 : slots ≤ ms) :
    vz_W p l e R s m args below meth c H locs cells slots (vz_MQ below Qc (th_X D B X) args s mc ms (th_A B)) (F0 m pc ls rest) x := by
  obtain ⟨E, ce, g1, g2, g3⟩ := th_ooce hK hR ho
  exact vz_out hout hlk g1 g2 g3 (fun t ht _ => ⟨⟨G, hx, th_at hR ht, ho⟩, hS.F ht⟩) hS.2.2 h1 h2
theorem th_outN {X : Nat → aH → Prop} {x : Nat} (hK : th_K D s) (hlk : meth.locks = false) (hout : ∀ z ∈ c.exceptionTable.toList, False) (hR : th_H D B G H) (hS : va_S (th_A B) s.heap H locs) (hx : X x G) (ho : th_oo G x [9, 10, 11]) (h1 : cells ≤ mc) (h2 : slots ≤ ms) :
    vz_W p l e R s m args below meth c H locs cells slots (vz_MQ below Qc (th_X D B X) args s mc ms (th_A B)) (F0 m pc ls rest) x := th_out hK hlk (fun z h => (hout z h).elim) hR hS hx ho h1 h2
theorem th_athrow {x ci : Nat} (hx : p.tables.exec = Jvm.exec) (hb : c.code = cc) (hR : th_H D B G H) (ho : th_o G x ci) (hdg : decode cc pc = .ok (.athrow, 1)) (k : vz_W p l e R s m args below meth c H locs cells slots Q (F0 m pc ls rest) x) : W p l e R s m args below meth c H locs cells slots Q (F0 m pc ls (rv x :: rest)) := by
  rw [rv_pos (hR.pos ho.nz)]
  exact vz_athrow hx hb hdg k
/-- the row of the table that takes it -/
theorem th_catch {own nm : String} {x : Nat} (hown : s.vm.findClass own = some m.cls) (hK : th_K D s) (hR : th_H D B G H) (ho : th_o G x ci) (hq : CLS[ci]? = some q) {tab : List ExceptionTableEntry} (htab : c.exceptionTable.toList = tab) (pre : List ExceptionTableEntry) (z : ExceptionTableEntry) (suf : List ExceptionTableEntry) (hsplit : tab = pre ++ z :: suf)
    (hpass : ∀ z ∈ pre, covers z pc = false ∨ (z.catchType ≠ 0 ∧ ∃ nm : String, (Cond.classLink own z.catchType nm).before args s = true ∧ va_Nc q.1 nm s)) (hx : covers z pc = true) (h0 : z.catchType ≠ 0) (hlink : (Cond.classLink own z.catchType nm).before args s = true) (hcast : Cond.castable q.1 nm ∈ lw_tbl)
    (kk : W p l e R s m args below meth c H locs cells slots Q (F0 m z.handlerPc ls [rv x])) : vz_W p l e R s m args below meth c H locs cells slots Q (F0 m pc ls rest) x := by
  obtain ⟨ce, g1, g2, g3⟩ := th_ce hK hR ho hq
  rw [rv_pos (hR.pos ho.nz)] at kk
  exact vz_catch hown pre z suf (htab.trans hsplit) hpass hx h0 hlink (va_Nw.use rfl (hK.2.1 _ hcast rfl)) g1 g2 g3 kk
end ROWS
theorem th_ofX {l : Launch} {y : MethodName} {cc : ByteArray} {maxL : Nat} {ret : Option FieldType} {rm : Room} {D : tD} {B : Nat} {as : List Value} {w : aH → Prop} {Qc : Array Value → State → Outcome → State → Prop} {XC : Addr → String → State → State → Prop} {mc ms : Nat} (hy : plainName y.cls = true) (hc1 : th_c1 as) (hn : as.length ≤ maxL)
    (body : ∀ (p : Program) (e : Env) (s : State) (m : MethodId) (args : Array Value) (below : List Frame) (meth : Method) (c : Code), CallFix p m c cc maxL s args lw_all y.cls → meth.sig.returnType = ret → meth.locks = false → meth.name = y.name → (∀ x ∈ c.exceptionTable.toList, False) → th_K D s → th_St B s s.heap → ∀ (G : aH) (ls : Array Slot), th_H D B G s.heap → va_S (th_A B) s.heap s.heap [] → w G → th_L ls maxL (th_en 0 as) → W p l e rm s m args below meth c s.heap [] 0 0 (vz_MQ below Qc XC args s mc ms (th_A B)) (F0 m 0 ls [])) :
    vz_Met l y (ws_ y cc maxL ret) rm (th_P D B as w) Qc XC mc ms (th_A B) := by
  refine vz_ofW (cc := cc) (maxL := maxL) (ret := ret) hy rfl ?_
  intro p e s m args below meth c s₁ Bd hml htab hv
  obtain ⟨rfl, G, hR, hK, hSt, hw⟩ := hv
  have hts := atoms_spec (ws := ws_ y cc maxL ret) Bd.pre
  obtain ⟨ls, e1, hl⟩ := th_entry hc1 hn m
  rw [e1]
  exact body p e s m _ below meth c ⟨Bd.exec, Bd.bytes, hml, findClass_of_methodNamed Bd.named, fun w h => hts w (List.mem_cons_of_mem _ h)⟩ Bd.returns Bd.notSynchronized (name_of_methodNamed Bd.named Bd.method).1 htab hK hSt G ls hR va_S.rf hw hl
theorem th_ofXH {l : Launch} {y : MethodName} {cc : ByteArray} {maxL : Nat} {ret : Option FieldType} {hh : List (Nat × Nat × Nat × Nat)} {rm : Room} {D : tD} {B : Nat} {as : List Value} {w : aH → Prop} {Qc : Array Value → State → Outcome → State → Prop} {XC : Addr → String → State → State → Prop} {mc ms : Nat} (hy : plainName y.cls = true) (hc1 : th_c1 as) (hn : as.length ≤ maxL)
    (body : ∀ (p : Program) (e : Env) (s : State) (m : MethodId) (args : Array Value) (below : List Frame) (meth : Method) (c : Code), CallFix p m c cc maxL s args lw_all y.cls → meth.sig.returnType = ret → meth.locks = false → meth.name = y.name → c.exceptionTable.toList = tableOf hh → th_K D s → th_St B s s.heap → ∀ (G : aH) (ls : Array Slot), th_H D B G s.heap → va_S (th_A B) s.heap s.heap [] → w G → th_L ls maxL (th_en 0 as) → W p l e rm s m args below meth c s.heap [] 0 0 (vz_MQ below Qc XC args s mc ms (th_A B)) (F0 m 0 ls [])) :
    vz_Met l y (wsW_ y cc maxL ret hh) rm (th_P D B as w) Qc XC mc ms (th_A B) := by
  refine vz_ofWH (cc := cc) (maxL := maxL) (ret := ret) (hh := hh) hy rfl ?_
  intro p e s m args below meth c s₁ Bd hml hv
  obtain ⟨rfl, G, hR, hK, hSt, hw⟩ := hv
  have hts := atoms_spec (ws := wsW_ y cc maxL ret hh) Bd.pre
  have htab := vz_table (x := y) Bd (hts _ List.mem_cons_self)
  obtain ⟨ls, e1, hl⟩ := th_entry hc1 hn m
  rw [e1]
  exact body p e s m _ below meth c ⟨Bd.exec, Bd.bytes, hml, findClass_of_methodNamed Bd.named, fun w h => hts w (List.mem_cons_of_mem _ h)⟩ Bd.returns Bd.notSynchronized (name_of_methodNamed Bd.named Bd.method).1 htab hK hSt G ls hR va_S.rf hw hl
