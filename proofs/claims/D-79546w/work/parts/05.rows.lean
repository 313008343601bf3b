/-! ROWS: an instruction each, over the abstract heap -/
set_option maxRecDepth 100000
/-- two final fields of two owners lie apart -/
theorem th_apartF {args : Array Value} {s : State} {C O f d O' f' d' : String} (h : (Cond.laysFinal C O f d).before args s = true) (h' : (Cond.laysFinal C O' f' d').before args s = true)
    {cf kf fi fd cf' kf' fi' fd'} (hi : s.fieldFound? O f d = some (cf, kf, fi, fd)) (hi' : s.fieldFound? O' f' d' = some (cf', kf', fi', fd')) (hne : O ≠ O') : fd.slot ≠ fd'.slot := by
  obtain ⟨a, _, g1, g2, _, g, ha, _, hg, _, _, _, ho, _, e, he, hec, _, _⟩ := Cond.laysFinal_spec h
  obtain ⟨a', _, g1', g2', _, g', ha', _, hg', _, _, _, ho', _, e', he', hec', _, _⟩ := Cond.laysFinal_spec h'
  cases hi.symm.trans hg
  cases hi'.symm.trans hg'
  cases ha.symm.trans ha'
  intro hs
  rw [hs] at he
  cases he.symm.trans he'
  obtain ⟨k1, hk1, hn1⟩ := Vm.findClass_spec ho
  obtain ⟨k2, hk2, hn2⟩ := Vm.findClass_spec ho'
  have z1 := (State.fieldFound?_spec hi).1
  have z2 := (State.fieldFound?_spec hi').1
  cases hk1.symm.trans z1
  cases hk2.symm.trans z2
  apply hne
  rw [← hn1, ← hn2, ← hec, ← hec']
def th_nm (T : u_T) (N : Nat) : Prop := ∀ a, a < N → ∀ b, b < N → a ≠ b → (T a).2.1 ≠ (T b).2.1 ∨ ((T a).2.2.2 = true ∧ (T b).2.2.2 = true ∧ (T a).1 ≠ (T b).1)
theorem th_nm.of {T : u_T} {N : Nat} (h : ∀ a, a < N → ∀ b, b < N → a ≠ b → (T a).2.1 ≠ (T b).2.1) : th_nm T N := fun a ha b hb hab => Or.inl (h a ha b hb hab)
theorem th_apart {args : Array Value} {s : State} {D : tD} {C : String} {T : u_T} {N ci : Nat} (hts : ∀ w ∈ lw_all, w.before args s = true) (hin : ∀ w ∈ u_ws C T N, w ∈ lw_all) (ty : Nat → FieldType) (hty : ∀ k, k < N → parseFieldDescriptor (T k).2.2.1 = some (ty k)) (hnm : th_nm T N) (hK : th_K D s) (hc : CLS[ci]? = some (C, T, N)) : ∀ x y, x < N → y < N → x ≠ y → (D.1.2 ci) x ≠ (D.1.2 ci) y := by
  intro x y hx hy hne
  obtain ⟨hS, -⟩ := hK.1.1 ci _ hc
  obtain ⟨_, _, _, fa, hia, ea⟩ := hS x hx
  obtain ⟨_, _, _, fb, hib, eb⟩ := hS y hy
  rw [← ea, ← eb]
  rcases hnm x hx y hy hne with h | ⟨h1, h2, h3⟩
  · refine u_apart (u_lays hts hin hx) (u_lays hts hin hy) hia hib ?_
    rw [(State.fieldFound?_type hia (hty x hx)).1, (State.fieldFound?_type hib (hty y hy)).1]
    exact h
  · have g1 := hts _ (hin _ (u_in_lay hx))
    have g2 := hts _ (hin _ (u_in_lay hy))
    unfold u_lay at g1 g2
    rw [if_pos h1] at g1
    rw [if_pos h2] at g2
    exact th_apartF g1 g2 hia hib h3
theorem th_putcell {D : tD} {B : Nat} {G G1 : aH} {H H1 : Heap} {a ci k : Nat} {q : vw_C} {cell : Cell} {v : Value} (hR : th_H D B G H) (ho : th_o G a ci) (hc : CLS[ci]? = some q) (hk : k < q.2.2) (hap : ∀ x y, x < q.2.2 → y < q.2.2 → x ≠ y → (D.1.2 ci) x ≠ (D.1.2 ci) y)
    (q1 : H[a]? = some cell) (q2 : cell.cls = D.1.1 ci) (q3 : cell.vm = .none) (q4 : ∀ j, j < q.2.2 → cell.slots[D.1.2 ci j]? = some (cv ci G a j)) (e1 : H1[a]? = some (cell.setSlot (D.1.2 ci k) v)) (e2 : H1.size = H.size) (e3 : ∀ z : Nat, z ≠ a → H1[z]? = H[z]?)
    (hz : a_sz G1 = a_sz G) (hs : a_sh G1 = a_sh G) (hi : ∀ z, z ≠ a → ∀ j, a_mi G1 z j = a_mi G z j) (hr : ∀ z, z ≠ a → ∀ j, a_mr G1 z j = a_mr G z j) (hv : ∀ j, cv ci G1 a j = if j = k then v else cv ci G a j) : th_H D B G1 H1 := by
  refine hR.upd a hz hs hi hr e2 e3 ⟨fun ci' q' g1 g2 => ?_, fun j n g1 g2 => ?_, fun ci' g1 g2 => ((hR.2.2.2.2 a).2.2 ci' (by rw [← hs]; exact g1) g2).set q1 e1⟩
  · rw [hs] at g1
    have e : ci' = ci := by
      have := g1.symm.trans ho
      simp at this
      exact this
    subst e
    cases hc.symm.trans g2
    refine t_OB.to (V := updV (cv ci' G a) k v) ⟨_, e1, q2, q3, t_set q4 hap hk v⟩ (fun j _ => ?_)
    rw [hv]
    rfl
  · rw [hs] at g1
    have := g1.symm.trans ho
    have hl := cls_lt hc
    simp at this
    omega
theorem cv_si {ci : Nat} {G : aH} {a k : Nat} {x : Int32} (h : th_rf (tyOf ci k) = false) : ∀ j, cv ci (a_si G a k x) a j = if j = k then .int x else cv ci G a j := by
  intro j
  unfold cv
  by_cases e : j = k
  · subst e
    rw [h]
    simp [mi_si]
  · rw [mi_si, mr_si, if_neg e, if_neg (fun z => e z.2)]
theorem cv_sr {ci : Nat} {G : aH} {a k : Nat} {x : Nat} (h : th_rf (tyOf ci k) = true) : ∀ j, cv ci (a_sr G a k x) a j = if j = k then rv x else cv ci G a j := by
  intro j
  unfold cv
  by_cases e : j = k
  · subst e
    rw [h]
    simp [mr_sr]
  · rw [mr_sr, mi_sr, if_neg e, if_neg (fun z => e z.2)]
theorem th_arrput {D : tD} {B : Nat} {G G1 : aH} {H H1 : Heap} {a j n i : Nat} {v : Value} (hR : th_H D B G H) (hj : j < 11) (hsh : a_sh G a = (100 + j, n)) (e1 : H1[a]? = some ((arrV (D.2 j) n (av j G a)).setSlot i v)) (e2 : H1.size = H.size) (e3 : ∀ z : Nat, z ≠ a → H1[z]? = H[z]?)
    (hz : a_sz G1 = a_sz G) (hs : a_sh G1 = a_sh G) (hi : ∀ z, z ≠ a → ∀ k, a_mi G1 z k = a_mi G z k) (hr : ∀ z, z ≠ a → ∀ k, a_mr G1 z k = a_mr G z k) (hv : ∀ k, av j G1 a k = if k = i then v else av j G a k) : th_H D B G1 H1 := by
  refine hR.upd a hz hs hi hr e2 e3 ⟨fun ci q g1 g2 => ?_, fun j' n' g1 g2 => ?_, fun ci g1 g2 => by rw [hs, hsh] at g1; simp at g1; omega⟩
  · rw [hs] at g1
    have := g1.symm.trans hsh
    have hl := cls_lt g2
    simp at this
    omega
  · rw [hs] at g1
    have := g1.symm.trans hsh
    simp at this
    obtain ⟨e4, e5⟩ := this
    have e6 : j' = j := by omega
    subst e5
    subst e6
    rw [e1, arrV_store]
    have e : updV (av j' G a) i v = av j' G1 a := by
      funext k
      rw [hv]
      rfl
    rw [e]
theorem av_si {j : Nat} {G : aH} {a i : Nat} {x : Int32} (h : th_rf (ATY j) = false) : ∀ k, av j (a_si G a i x) a k = if k = i then .int x else av j G a k := by
  intro k
  unfold av
  rw [h]
  simp only [mi_si]
  by_cases e : k = i
  · simp [e]
  · simp [e]
theorem av_sr {j : Nat} {G : aH} {a i : Nat} {x : Nat} (h : th_rf (ATY j) = true) : ∀ k, av j (a_sr G a i x) a k = if k = i then rv x else av j G a k := by
  intro k
  unfold av
  rw [h]
  simp only [mr_sr]
  by_cases e : k = i
  · simp [e]
  · simp [e]
theorem th_shp {G : aH} {a j : Nat} (h : (a_sh G a).1 = 100 + j) : a_sh G a = (100 + j, (a_sh G a).2) := by
  rw [← h]
section ROWS
variable {p : Program} {l : Launch} {e : Env} {R : Room} {s : State} {m : MethodId} {args : Array Value} {below : List Frame} {meth : Method} {c : Code} {H : Heap} {locs : List Loc} {cells slots : Nat} {Q : State → Prop}
variable {cc : ByteArray} {pc : Nat} {ls : Array Slot} {rest : List Value} {D : tD} {B : Nat} {G : aH} {nL : Nat}
/-! locals and the stack -/
theorem th_aload_n (hx : p.tables.exec = Jvm.exec) (hb : c.code = cc) {k : Fin 4} {i x : Nat} (hdg : decode cc pc = .ok (.aload_n k, 1)) (hi : (k : Nat) = i) (hl : ls[i]? = some (.val (rv x)))
    (kk : W p l e R s m args below meth c H locs cells slots Q (F0 m (pc + 1) ls (rv x :: rest))) : W p l e R s m args below meth c H locs cells slots Q (F0 m pc ls rest) := by
  by_cases h : x = 0
  · subst h
    exact lv_aload_nN hx hb hdg hi hl kk
  · rw [rv_pos h] at hl kk
    exact lv_aload_n hx hb hdg hi hl kk
theorem th_aload (hx : p.tables.exec = Jvm.exec) (hb : c.code = cc) {i x : Nat} (hdg : decode cc pc = .ok (.aload i, 2)) (hl : ls[i]? = some (.val (rv x)))
    (kk : W p l e R s m args below meth c H locs cells slots Q (F0 m (pc + 2) ls (rv x :: rest))) : W p l e R s m args below meth c H locs cells slots Q (F0 m pc ls rest) := by
  by_cases h : x = 0
  · subst h
    exact lv_aloadN hx hb hdg hl kk
  · rw [rv_pos h] at hl kk
    exact lv_aload hx hb hdg hl kk
theorem th_fil {lv : List (Nat × Value)} (h : ∀ q ∈ lv, q.2.category = 1) (i : Nat) : lv.filter (fun q => !(q.1 == i) && !(q.1 + 1 == i && q.2.category == 2)) = lv.filter (fun q => !(q.1 == i)) := by
  refine List.filter_congr fun q hq => ?_
  rw [h q hq]
  simp
theorem th_Lof {ls' : Array Slot} {lv : List (Nat × Value)} {i : Nat} {v : Value} (h : th_L ls nL lv) (hc : v.category = 1) (h' : lv_has ls' nL ((i, v) :: lv.filter (fun q => !(q.1 == i) && !(q.1 + 1 == i && q.2.category == 2)))) : th_L ls' nL ((i, v) :: lv.filter (fun q => !(q.1 == i))) := by
  rw [th_fil h.2] at h'
  refine ⟨h', fun q hq => ?_⟩
  rcases List.mem_cons.mp hq with rfl | hq
  · exact hc
  · exact h.2 q (List.mem_filter.mp hq).1
theorem th_istore_n (hx : p.tables.exec = Jvm.exec) (hb : c.code = cc) {k : Fin 4} {i : Nat} {x : Int32} {lv lv' : List (Nat × Value)} (hdg : decode cc pc = .ok (.istore_n k, 1)) (hi : (k : Nat) = i) (h : th_L ls nL lv) (hn : i < nL) (hl : (i, Value.int x) :: lv.filter (fun q => !(q.1 == i)) = lv')
    (kk : ∀ ls' : Array Slot, th_L ls' nL lv' → W p l e R s m args below meth c H locs cells slots Q (F0 m (pc + 1) ls' rest)) : W p l e R s m args below meth c H locs cells slots Q (F0 m pc ls (.int x :: rest)) := by
  subst hl
  exact lv_istore_n hx hb hdg hi h.1 hn rfl (fun ls' h' => kk ls' (th_Lof h rfl h'))
theorem th_istore (hx : p.tables.exec = Jvm.exec) (hb : c.code = cc) {i : Nat} {x : Int32} {lv lv' : List (Nat × Value)} (hdg : decode cc pc = .ok (.istore i, 2)) (h : th_L ls nL lv) (hn : i < nL) (hl : (i, Value.int x) :: lv.filter (fun q => !(q.1 == i)) = lv')
    (kk : ∀ ls' : Array Slot, th_L ls' nL lv' → W p l e R s m args below meth c H locs cells slots Q (F0 m (pc + 2) ls' rest)) : W p l e R s m args below meth c H locs cells slots Q (F0 m pc ls (.int x :: rest)) := by
  subst hl
  exact lv_istore hx hb hdg h.1 hn rfl (fun ls' h' => kk ls' (th_Lof h rfl h'))
theorem th_astore_n (hx : p.tables.exec = Jvm.exec) (hb : c.code = cc) {k : Fin 4} {i : Nat} {x : Nat} {lv lv' : List (Nat × Value)} (hdg : decode cc pc = .ok (.astore_n k, 1)) (hi : (k : Nat) = i) (h : th_L ls nL lv) (hn : i < nL) (hl : (i, rv x) :: lv.filter (fun q => !(q.1 == i)) = lv')
    (kk : ∀ ls' : Array Slot, th_L ls' nL lv' → W p l e R s m args below meth c H locs cells slots Q (F0 m (pc + 1) ls' rest)) : W p l e R s m args below meth c H locs cells slots Q (F0 m pc ls (rv x :: rest)) := by
  subst hl
  by_cases z : x = 0
  · subst z
    exact lv_astore_nN hx hb hdg hi h.1 hn rfl (fun ls' h' => kk ls' (th_Lof (v := .null) h rfl h'))
  · rw [rv_pos z] at kk ⊢
    exact lv_astore_n hx hb hdg hi h.1 hn rfl (fun ls' h' => kk ls' (th_Lof h rfl h'))
theorem th_astore (hx : p.tables.exec = Jvm.exec) (hb : c.code = cc) {i : Nat} {x : Nat} {lv lv' : List (Nat × Value)} (hdg : decode cc pc = .ok (.astore i, 2)) (h : th_L ls nL lv) (hn : i < nL) (hl : (i, rv x) :: lv.filter (fun q => !(q.1 == i)) = lv')
    (kk : ∀ ls' : Array Slot, th_L ls' nL lv' → W p l e R s m args below meth c H locs cells slots Q (F0 m (pc + 2) ls' rest)) : W p l e R s m args below meth c H locs cells slots Q (F0 m pc ls (rv x :: rest)) := by
  subst hl
  by_cases z : x = 0
  · subst z
    exact lv_astoreN hx hb hdg h.1 hn rfl (fun ls' h' => kk ls' (th_Lof (v := .null) h rfl h'))
  · rw [rv_pos z] at kk ⊢
    exact lv_astore hx hb hdg h.1 hn rfl (fun ls' h' => kk ls' (th_Lof h rfl h'))
theorem th_iinc (hx : p.tables.exec = Jvm.exec) (hb : c.code = cc) {i k : Nat} {n : Int} {x v : Int32} {lv lv' : List (Nat × Value)} (hdg : decode cc pc = .ok (.iinc i n, 3)) (h : th_L ls nL lv) (hk : lv[k]? = some (i, .int x)) (hv : x + Int32.ofInt n = v) (hn : i < nL) (hl : (i, Value.int v) :: lv.filter (fun q => !(q.1 == i)) = lv')
    (kk : ∀ ls' : Array Slot, th_L ls' nL lv' → W p l e R s m args below meth c H locs cells slots Q (F0 m (pc + 3) ls' rest)) : W p l e R s m args below meth c H locs cells slots Q (F0 m pc ls rest) := by
  subst hl
  exact lv_iinc hx hb hdg h.1 hk hv hn rfl (fun ls' h' => kk ls' (th_Lof h rfl h'))
theorem th_null (hx : p.tables.exec = Jvm.exec) (hb : c.code = cc) (hdg : decode cc pc = .ok (.aconst_null, 1)) (kk : W p l e R s m args below meth c H locs cells slots Q (F0 m (pc + 1) ls (rv 0 :: rest))) : W p l e R s m args below meth c H locs cells slots Q (F0 m pc ls rest) := lv_null hx hb hdg kk
theorem th_ifnull (hx : p.tables.exec = Jvm.exec) (hb : c.code = cc) {x : Nat} {off : Int} {tgt : Nat} (hdg : decode cc pc = .ok (.ifnull off, 3)) (ht : (pc : Int) + off = (tgt : Int)) (kt : x = 0 → W p l e R s m args below meth c H locs cells slots Q (F0 m tgt ls rest)) (kf : ¬ x = 0 → W p l e R s m args below meth c H locs cells slots Q (F0 m (pc + 3) ls rest)) : W p l e R s m args below meth c H locs cells slots Q (F0 m pc ls (rv x :: rest)) := by
  by_cases z : x = 0
  · have k := kt z
    subst z
    exact lv_ifnullN hx hb hdg ht k
  · rw [rv_pos z]
    exact lv_ifnull hx hb hdg (kf z)
theorem th_ifnonnull (hx : p.tables.exec = Jvm.exec) (hb : c.code = cc) {x : Nat} {off : Int} {tgt : Nat} (hdg : decode cc pc = .ok (.ifnonnull off, 3)) (ht : (pc : Int) + off = (tgt : Int)) (kt : ¬ x = 0 → W p l e R s m args below meth c H locs cells slots Q (F0 m tgt ls rest)) (kf : x = 0 → W p l e R s m args below meth c H locs cells slots Q (F0 m (pc + 3) ls rest)) : W p l e R s m args below meth c H locs cells slots Q (F0 m pc ls (rv x :: rest)) := by
  by_cases z : x = 0
  · have k := kf z
    subst z
    exact lv_ifnonnullN hx hb hdg k
  · rw [rv_pos z]
    exact lv_ifnonnull hx hb hdg ht (kt z)
theorem th_acmp_ne (hx : p.tables.exec = Jvm.exec) (hb : c.code = cc) {x y : Nat} {off : Int} {tgt : Nat} (hdg : decode cc pc = .ok (.if_acmp .ne off, 3)) (ht : (pc : Int) + off = (tgt : Int))
    (kt : ¬ x = y → W p l e R s m args below meth c H locs cells slots Q (F0 m tgt ls rest)) (kf : x = y → W p l e R s m args below meth c H locs cells slots Q (F0 m (pc + 3) ls rest)) : W p l e R s m args below meth c H locs cells slots Q (F0 m pc ls (rv y :: rv x :: rest)) := by
  rw [rv_rf, rv_rf]
  have e : ((if x = 0 then none else some x : Option Nat) = (if y = 0 then none else some y)) ↔ x = y := by
    constructor
    · intro h
      split at h <;> split at h <;> simp_all
    · intro h
      rw [h]
  exact lv_acmp_ne hx hb hdg ht (fun h => kt (fun z => h (e.mpr z))) (fun h => kf (e.mp h))
/-! fields -/
theorem th_get (hx : p.tables.exec = Jvm.exec) (hb : c.code = cc) {own ref C : String} {T : u_T} {N ci index k a : Nat} (hts : ∀ w ∈ lw_all, w.before args s = true) (hin : ∀ w ∈ u_ws C T N, w ∈ lw_all) (hown : s.vm.findClass own = some m.cls) (hK : th_K D s) (hc : CLS[ci]? = some (C, T, N)) (hk : k < N)
    (hlink : (Cond.fieldLink own index ref (T k).2.1 (T k).2.2.1).before args s = true) (hsame : ∀ x, s.fieldFound? (T k).1 (T k).2.1 (T k).2.2.1 = some x → s.fieldFound? ref (T k).2.1 (T k).2.2.1 = some x) (hR : th_H D B G H) (ho : th_o G a ci) {v : Value} (hv : cv ci G a k = v) (hdg : decode cc pc = .ok (.getfield index, 3))
    (kk : W p l e R s m args below meth c H locs cells slots Q (F0 m (pc + 3) ls (v :: rest))) : W p l e R s m args below meth c H locs cells slots Q (F0 m pc ls (rv a :: rest)) := by
  rw [rv_pos (hR.pos ho.nz)]
  obtain ⟨cell, q1, q2, q3, q4⟩ := (hR.2.2.2.2 a).1 ci _ ho hc
  obtain ⟨hS, hfc, kC, hkC, hkind⟩ := hK.1.1 ci _ hc
  obtain ⟨cf, kf, fi, f, hi, hsl⟩ := hS k hk
  refine W.getf hx hb hown hlink (hsame _ hi) (u_facts hfc hkC (u_lays hts hin hk) hi).1 q1 (by rw [q3]; exact fun h => by cases h) (v := v) ?_ rfl rfl hdg kk
  rw [hsl, q4 k hk, hv]
theorem th_getN (hx : p.tables.exec = Jvm.exec) (hb : c.code = cc) {own ref C host : String} {T : u_T} {N ci index k a : Nat} (hts : ∀ w ∈ lw_all, w.before args s = true) (hin : ∀ w ∈ u_ws C T N, w ∈ lw_all) (hown : s.vm.findClass own = some m.cls) (hK : th_K D s) (hc : CLS[ci]? = some (C, T, N)) (hk : k < N)
    (hlink : (Cond.fieldLinkNest own index ref (T k).2.1 (T k).2.2.1 host) ∈ lw_tbl) (hsame : ∀ x, s.fieldFound? (T k).1 (T k).2.1 (T k).2.2.1 = some x → s.fieldFound? ref (T k).2.1 (T k).2.2.1 = some x) (hR : th_H D B G H) (ho : th_o G a ci) {v : Value} (hv : cv ci G a k = v) (hdg : decode cc pc = .ok (.getfield index, 3))
    (kk : W p l e R s m args below meth c H locs cells slots Q (F0 m (pc + 3) ls (v :: rest))) : W p l e R s m args below meth c H locs cells slots Q (F0 m pc ls (rv a :: rest)) := by
  rw [rv_pos (hR.pos ho.nz)]
  have hlink := va_Nw.use (A := args) rfl (hK.2.1 _ hlink rfl)
  obtain ⟨cell, q1, q2, q3, q4⟩ := (hR.2.2.2.2 a).1 ci _ ho hc
  obtain ⟨hS, hfc, kC, hkC, hkind⟩ := hK.1.1 ci _ hc
  obtain ⟨cf, kf, fi, f, hi, hsl⟩ := hS k hk
  refine va_Wgetf hx hb hown hlink (hsame _ hi) (u_facts hfc hkC (u_lays hts hin hk) hi).1 q1 (by rw [q3]; exact fun h => by cases h) (v := v) ?_ rfl rfl hdg kk
  rw [hsl, q4 k hk, hv]
theorem th_put (hx : p.tables.exec = Jvm.exec) (hb : c.code = cc) {own ref C : String} {T : u_T} {N ci index k a : Nat} (hts : ∀ w ∈ lw_all, w.before args s = true) (hin : ∀ w ∈ u_ws C T N, w ∈ lw_all) (ty0 : Nat → FieldType) (hty : ∀ k, k < N → parseFieldDescriptor (T k).2.2.1 = some (ty0 k)) (hnm : th_nm T N) (hown : s.vm.findClass own = some m.cls) (hK : th_K D s) (hc : CLS[ci]? = some (C, T, N)) (hk : k < N)
    (hlink : (Cond.fieldLink own index ref (T k).2.1 (T k).2.2.1).before args s = true) (hsame : ∀ x, s.fieldFound? (T k).1 (T k).2.1 (T k).2.2.1 = some x → s.fieldFound? ref (T k).2.1 (T k).2.2.1 = some x) (hfin : (T k).2.2.2 = false) {v : Value} (hn : narrow (ty0 k) v = v) (hfit : fits (ty0 k) v = true) (hR : th_H D B G H) (hS0 : va_S (th_A B) s.heap H locs) (ho : th_o G a ci) {G1 : aH}
    (hz : a_sz G1 = a_sz G) (hs : a_sh G1 = a_sh G) (hii : ∀ z, z ≠ a → ∀ j, a_mi G1 z j = a_mi G z j) (hrr : ∀ z, z ≠ a → ∀ j, a_mr G1 z j = a_mr G z j) (hv : ∀ j, cv ci G1 a j = if j = k then v else cv ci G a j) (hdg : decode cc pc = .ok (.putfield index, 3))
    (kk : ∀ (H1 : Heap) (locs1 : List Loc), th_H D B G1 H1 → va_S (th_A B) s.heap H1 locs1 → W p l e R s m args below meth c H1 locs1 cells slots Q (F0 m (pc + 3) ls rest)) : W p l e R s m args below meth c H locs cells slots Q (F0 m pc ls (v :: rv a :: rest)) := by
  rw [rv_pos (hR.pos ho.nz)]
  have hap := th_apart hts hin ty0 hty hnm hK hc
  obtain ⟨cell, q1, q2, q3, q4⟩ := (hR.2.2.2.2 a).1 ci _ ho hc
  obtain ⟨hS, hfc, kC, hkC, hkind⟩ := hK.1.1 ci _ hc
  obtain ⟨cf, kf, fi, f, hi, hsl⟩ := hS k hk
  have hlay := hts _ (hin _ (u_in_lay hk))
  unfold u_lay at hlay
  rw [if_neg (by rw [hfin]; decide)] at hlay
  have hst := (u_facts hfc hkC (u_lays hts hin hk) hi).1
  have h6 := u_store hfc hkC hkind hlay hi (hty k hk) hn hfit
  refine W.putK hx hb (f := f) ⟨hown, hlink, ⟨_, _, _, hsame _ hi⟩, hst⟩ (by rw [q2]; exact h6) q1 q3 (by rw [hsl]; exact k2_hasslot (q4 k hk)) rfl rfl hdg fun H' e1 e2 e3 => ?_
  rw [hsl] at e1 ⊢
  exact kk H' _ (th_putcell hR ho hc hk hap q1 q2 q3 q4 e1 e2 e3 hz hs hii hrr hv) (hS0.put e2 e3 (hR.inA ho.nz))
theorem th_putN (hx : p.tables.exec = Jvm.exec) (hb : c.code = cc) {own ref C host : String} {T : u_T} {N ci index k a : Nat} (hts : ∀ w ∈ lw_all, w.before args s = true) (hin : ∀ w ∈ u_ws C T N, w ∈ lw_all) (ty0 : Nat → FieldType) (hty : ∀ k, k < N → parseFieldDescriptor (T k).2.2.1 = some (ty0 k)) (hnm : th_nm T N) (hown : s.vm.findClass own = some m.cls) (hK : th_K D s) (hc : CLS[ci]? = some (C, T, N)) (hk : k < N)
    (hlink : (Cond.fieldLinkNest own index ref (T k).2.1 (T k).2.2.1 host) ∈ lw_tbl) (hsame : ∀ x, s.fieldFound? (T k).1 (T k).2.1 (T k).2.2.1 = some x → s.fieldFound? ref (T k).2.1 (T k).2.2.1 = some x) (hfin : (T k).2.2.2 = false) {v : Value} (hn : narrow (ty0 k) v = v) (hfit : fits (ty0 k) v = true) (hR : th_H D B G H) (hS0 : va_S (th_A B) s.heap H locs) (ho : th_o G a ci) {G1 : aH}
    (hz : a_sz G1 = a_sz G) (hs : a_sh G1 = a_sh G) (hii : ∀ z, z ≠ a → ∀ j, a_mi G1 z j = a_mi G z j) (hrr : ∀ z, z ≠ a → ∀ j, a_mr G1 z j = a_mr G z j) (hv : ∀ j, cv ci G1 a j = if j = k then v else cv ci G a j) (hdg : decode cc pc = .ok (.putfield index, 3))
    (kk : ∀ (H1 : Heap) (locs1 : List Loc), th_H D B G1 H1 → va_S (th_A B) s.heap H1 locs1 → W p l e R s m args below meth c H1 locs1 cells slots Q (F0 m (pc + 3) ls rest)) : W p l e R s m args below meth c H locs cells slots Q (F0 m pc ls (v :: rv a :: rest)) := by
  rw [rv_pos (hR.pos ho.nz)]
  have hlink := va_Nw.use (A := args) rfl (hK.2.1 _ hlink rfl)
  have hap := th_apart hts hin ty0 hty hnm hK hc
  obtain ⟨cell, q1, q2, q3, q4⟩ := (hR.2.2.2.2 a).1 ci _ ho hc
  obtain ⟨hS, hfc, kC, hkC, hkind⟩ := hK.1.1 ci _ hc
  obtain ⟨cf, kf, fi, f, hi, hsl⟩ := hS k hk
  have hlay := hts _ (hin _ (u_in_lay hk))
  unfold u_lay at hlay
  rw [if_neg (by rw [hfin]; decide)] at hlay
  have hst := (u_facts hfc hkC (u_lays hts hin hk) hi).1
  have h6 := u_store hfc hkC hkind hlay hi (hty k hk) hn hfit
  refine va_WputK hx hb (f := f) hown hlink (hsame _ hi) hst (by rw [q2]; exact h6) q1 q3 (by rw [hsl]; exact k2_hasslot (q4 k hk)) rfl rfl hdg fun H' e1 e2 e3 => ?_
  rw [hsl] at e1 ⊢
  exact kk H' _ (th_putcell hR ho hc hk hap q1 q2 q3 q4 e1 e2 e3 hz hs hii hrr hv) (hS0.put e2 e3 (hR.inA ho.nz))
theorem th_putF (hx : p.tables.exec = Jvm.exec) (hb : c.code = cc) {own ref C : String} {T : u_T} {N ci index k a : Nat} (hts : ∀ w ∈ lw_all, w.before args s = true) (hin : ∀ w ∈ u_ws C T N, w ∈ lw_all) (ty0 : Nat → FieldType) (hty : ∀ k, k < N → parseFieldDescriptor (T k).2.2.1 = some (ty0 k)) (hnm : th_nm T N) (hown : s.vm.findClass own = some m.cls) (hK : th_K D s) (hc : CLS[ci]? = some (C, T, N)) (hk : k < N)
    (hlink : (Cond.fieldLink own index ref (T k).2.1 (T k).2.2.1).before args s = true) (hsame : ∀ x, s.fieldFound? (T k).1 (T k).2.1 (T k).2.2.1 = some x → s.fieldFound? ref (T k).2.1 (T k).2.2.1 = some x) (hfin : (T k).2.2.2 = true) (hin2 : meth.name = "<init>") (hdecl : (T k).1 = own) {v : Value} (hn : narrow (ty0 k) v = v) (hfit : fits (ty0 k) v = true) (hR : th_H D B G H) (hS0 : va_S (th_A B) s.heap H locs) (ho : th_o G a ci) {G1 : aH}
    (hz : a_sz G1 = a_sz G) (hs : a_sh G1 = a_sh G) (hii : ∀ z, z ≠ a → ∀ j, a_mi G1 z j = a_mi G z j) (hrr : ∀ z, z ≠ a → ∀ j, a_mr G1 z j = a_mr G z j) (hv : ∀ j, cv ci G1 a j = if j = k then v else cv ci G a j) (hdg : decode cc pc = .ok (.putfield index, 3))
    (kk : ∀ (H1 : Heap) (locs1 : List Loc), th_H D B G1 H1 → va_S (th_A B) s.heap H1 locs1 → W p l e R s m args below meth c H1 locs1 cells slots Q (F0 m (pc + 3) ls rest)) : W p l e R s m args below meth c H locs cells slots Q (F0 m pc ls (v :: rv a :: rest)) := by
  rw [rv_pos (hR.pos ho.nz)]
  have hap := th_apart hts hin ty0 hty hnm hK hc
  obtain ⟨cell, q1, q2, q3, q4⟩ := (hR.2.2.2.2 a).1 ci _ ho hc
  obtain ⟨hS, hfc, kC, hkC, hkind⟩ := hK.1.1 ci _ hc
  obtain ⟨cf, kf, fi, f, hi, hsl⟩ := hS k hk
  have hlay := hts _ (hin _ (u_in_lay hk))
  unfold u_lay at hlay
  rw [if_pos hfin] at hlay
  have hst := (u_facts hfc hkC (u_lays hts hin hk) hi).1
  have hcf : m.cls = cf := by
    obtain ⟨_, _, c', _, _, _, -, -, hf', -, -, -, hown2, -⟩ := Cond.laysFinal_spec hlay
    have e1 : c' = cf := by have := hi.symm.trans hf'; simp at this; exact this.1.symm
    rw [hdecl] at hown2
    rw [← e1]; exact Option.some.inj (hown.symm.trans hown2)
  have h6 := u_fits hfc hkC hkind (Or.inr hlay) hi (hty k hk) hn hfit
  refine W.putFinK hx hb hown hlink (hsame _ hi) hst hcf hin2 (by rw [q2]; exact h6) q1 q3 (by rw [hsl]; exact k2_hasslot (q4 k hk)) rfl rfl hdg fun H' e1 e2 e3 => ?_
  rw [hsl] at e1 ⊢
  exact kk H' _ (th_putcell hR ho hc hk hap q1 q2 q3 q4 e1 e2 e3 hz hs hii hrr hv) (hS0.put e2 e3 (hR.inA ho.nz))
end ROWS
theorem ne_mi {G : aH} {a k : Nat} {x : Int32} : ∀ z, z ≠ a → ∀ j, a_mi (a_si G a k x) z j = a_mi G z j := fun z hz j => by rw [mi_si, if_neg (fun q => hz q.1)]
theorem ne_mr {G : aH} {a k x : Nat} : ∀ z, z ≠ a → ∀ j, a_mr (a_sr G a k x) z j = a_mr G z j := fun z hz j => by rw [mr_sr, if_neg (fun q => hz q.1)]
theorem fits_rv {n : String} (x : Nat) : fits (.object n) (rv x) = true := by unfold rv; split <;> rfl
theorem fits_rva {t : FieldType} (x : Nat) : fits (.array t) (rv x) = true := by unfold rv; split <;> rfl
