/-! ROWS, second half: arrays, new objects, casts, calls, ends, bodies -/
set_option maxRecDepth 100000
theorem th_at {D : tD} {B : Nat} {G : aH} {H : Heap} {t : State} (h : th_H D B G H) (e : t.heap = H) : th_H D B G t.heap := by rw [e]; exact h
section ROWS
variable {p : Program} {l : Launch} {e : Env} {R : Room} {s : State} {m : MethodId} {args : Array Value} {below : List Frame} {meth : Method} {c : Code} {H : Heap} {locs : List Loc} {cells slots : Nat} {Q : State → Prop}
variable {cc : ByteArray} {pc : Nat} {ls : Array Slot} {rest : List Value} {D : tD} {B : Nat} {G : aH} {nL : Nat}
theorem th_K.arr {D : tD} {U : State} (hK : th_K D U) {j : Nat} (hj : j < 11) : ArrOfT U (D.2 j) (ATY j) := (hK.1.2 j _ (TYS_at D hj)).1
theorem th_acell {a j : Nat} (hR : th_H D B G H) (hj : j < 11) (h : (a_sh G a).1 = 100 + j) : H[a]? = some (arrV (D.2 j) (a_sh G a).2 (av j G a)) := (hR.2.2.2.2 a).2.1 j _ (th_shp h) hj
theorem th_ai.nz {a j : Nat} {i : Int32} (h : th_ai G a j i) : (a_sh G a).1 ≠ 0 := by
  have := h.1
  omega
theorem th_alen (hx : p.tables.exec = Jvm.exec) (hb : c.code = cc) (hK : th_K D s) (j : Nat) {a : Nat} (hj : j < 11) (hR : th_H D B G H) (ha : th_a G a j) (hdg : decode cc pc = .ok (.arraylength, 1))
    (kk : W p l e R s m args below meth c H locs cells slots Q (F0 m (pc + 1) ls (.int (th_len G a) :: rest))) : W p l e R s m args below meth c H locs cells slots Q (F0 m pc ls (rv a :: rest)) := by
  rw [rv_pos (hR.pos ha.nz)]
  exact W.alen (n := th_len G a) hx hb (th_acell hR hj ha) (hK.arr hj _ _) (by rw [arrV_size] <;> rfl) rfl rfl hdg kk
theorem th_iald (hx : p.tables.exec = Jvm.exec) (hb : c.code = cc) (hK : th_K D s) {a : Nat} {i : Int32} (hR : th_H D B G H) (ha : th_ai G a 0 i) (hdg : decode cc pc = .ok (.iaload, 1))
    (kk : W p l e R s m args below meth c H locs cells slots Q (F0 m (pc + 1) ls (.int (a_mi G a i.toNatClampNeg) :: rest))) : W p l e R s m args below meth c H locs cells slots Q (F0 m pc ls (.int i :: rv a :: rest)) := by
  rw [rv_pos (hR.pos ha.nz)]
  exact W.iald (v := .int (a_mi G a i.toNatClampNeg)) hx hb (th_acell hR (j := 0) (by decide) ha.1) (hK.arr (j := 0) (by decide) _ _) (fun q => by cases q) (by rw [arrV_size]; intro q; rcases q with q | q; exact ha.2.1 q; have := ha.2.2; omega) (by rw [arrV_read _ _ ha.2.2]; rfl) rfl rfl hdg kk
theorem th_bald (hx : p.tables.exec = Jvm.exec) (hb : c.code = cc) (hK : th_K D s) {a : Nat} {i : Int32} (hR : th_H D B G H) (ha : th_ai G a 1 i) (hdg : decode cc pc = .ok (.baload, 1))
    (kk : W p l e R s m args below meth c H locs cells slots Q (F0 m (pc + 1) ls (.int (a_mi G a i.toNatClampNeg) :: rest))) : W p l e R s m args below meth c H locs cells slots Q (F0 m pc ls (.int i :: rv a :: rest)) := by
  rw [rv_pos (hR.pos ha.nz)]
  exact W.bald (v := .int (a_mi G a i.toNatClampNeg)) hx hb (th_acell hR (j := 1) (by decide) ha.1) (hK.arr (j := 1) (by decide) _ _) (fun q => by cases q) (by rw [arrV_size]; intro q; rcases q with q | q; exact ha.2.1 q; have := ha.2.2; omega) (by rw [arrV_read _ _ ha.2.2]; rfl) rfl rfl hdg kk
theorem th_zald (hx : p.tables.exec = Jvm.exec) (hb : c.code = cc) (hK : th_K D s) {a : Nat} {i : Int32} (hR : th_H D B G H) (ha : th_ai G a 2 i) (hdg : decode cc pc = .ok (.baload, 1))
    (kk : W p l e R s m args below meth c H locs cells slots Q (F0 m (pc + 1) ls (.int (a_mi G a i.toNatClampNeg) :: rest))) : W p l e R s m args below meth c H locs cells slots Q (F0 m pc ls (.int i :: rv a :: rest)) := by
  rw [rv_pos (hR.pos ha.nz)]
  exact W.zald (v := .int (a_mi G a i.toNatClampNeg)) hx hb (th_acell hR (j := 2) (by decide) ha.1) (hK.arr (j := 2) (by decide) _ _) (fun q => by cases q) (by rw [arrV_size]; intro q; rcases q with q | q; exact ha.2.1 q; have := ha.2.2; omega) (by rw [arrV_read _ _ ha.2.2]; rfl) rfl rfl hdg kk
theorem th_aald (hx : p.tables.exec = Jvm.exec) (hb : c.code = cc) (hK : th_K D s) (j : Nat) {a : Nat} {i : Int32} (hj : j < 11) (hrf : th_rf (ATY j) = true) (hty : (ATY j).isReference = true) (hR : th_H D B G H) (ha : th_ai G a j i) (hdg : decode cc pc = .ok (.aaload, 1))
    (kk : W p l e R s m args below meth c H locs cells slots Q (F0 m (pc + 1) ls (rv (a_mr G a i.toNatClampNeg) :: rest))) : W p l e R s m args below meth c H locs cells slots Q (F0 m pc ls (.int i :: rv a :: rest)) := by
  rw [rv_pos (hR.pos ha.nz)]
  refine W.aald (v := rv (a_mr G a i.toNatClampNeg)) (ty := ATY j) hx hb (th_acell hR hj ha.1) (hK.arr hj _ _) hty (fun q => by cases q) (by rw [arrV_size]; intro q; rcases q with q | q; exact ha.2.1 q; have := ha.2.2; omega) ?_ rfl rfl hdg kk
  rw [arrV_read _ _ ha.2.2]
  unfold av
  rw [hrf]
theorem th_iast (hx : p.tables.exec = Jvm.exec) (hb : c.code = cc) (hK : th_K D s) {a : Nat} {i x : Int32} (hR : th_H D B G H) (hS : va_S (th_A B) s.heap H locs) (ha : th_ai G a 0 i) (hdg : decode cc pc = .ok (.iastore, 1))
    (kk : ∀ (G1 : aH) (H1 : Heap) (locs1 : List Loc), G1 = a_si G a i.toNatClampNeg x → th_H D B G1 H1 → va_S (th_A B) s.heap H1 locs1 → W p l e R s m args below meth c H1 locs1 cells slots Q (F0 m (pc + 1) ls rest)) : W p l e R s m args below meth c H locs cells slots Q (F0 m pc ls (.int x :: .int i :: rv a :: rest)) := by
  rw [rv_pos (hR.pos ha.nz)]
  refine W.iast hx hb (th_acell hR (j := 0) (by decide) ha.1) (hK.arr (j := 0) (by decide) _ _) (fun q => by cases q) (by rw [arrV_size]; intro q; rcases q with q | q; exact ha.2.1 q; have := ha.2.2; omega) rfl rfl hdg fun H1 e1 e2 e3 => ?_
  exact kk _ H1 _ rfl (th_arrput (j := 0) (i := i.toNatClampNeg) (v := .int x) hR (by decide) (th_shp ha.1) e1 e2 e3 rfl rfl ne_mi (fun _ _ _ => rfl) (av_si rfl)) (hS.put e2 e3 (hR.inA ha.nz))
theorem th_bast (hx : p.tables.exec = Jvm.exec) (hb : c.code = cc) (hK : th_K D s) {a : Nat} {i x : Int32} (hR : th_H D B G H) (hS : va_S (th_A B) s.heap H locs) (ha : th_ai G a 1 i) (hdg : decode cc pc = .ok (.bastore, 1))
    (kk : ∀ (G1 : aH) (H1 : Heap) (locs1 : List Loc), G1 = a_si G a i.toNatClampNeg x.toInt8.toInt32 → th_H D B G1 H1 → va_S (th_A B) s.heap H1 locs1 → W p l e R s m args below meth c H1 locs1 cells slots Q (F0 m (pc + 1) ls rest)) : W p l e R s m args below meth c H locs cells slots Q (F0 m pc ls (.int x :: .int i :: rv a :: rest)) := by
  rw [rv_pos (hR.pos ha.nz)]
  refine W.bast hx hb (th_acell hR (j := 1) (by decide) ha.1) (hK.arr (j := 1) (by decide) _ _) (fun q => by cases q) (by rw [arrV_size]; intro q; rcases q with q | q; exact ha.2.1 q; have := ha.2.2; omega) rfl rfl hdg fun H1 e1 e2 e3 => ?_
  exact kk _ H1 _ rfl (th_arrput (j := 1) (i := i.toNatClampNeg) (v := .int x.toInt8.toInt32) hR (by decide) (th_shp ha.1) e1 e2 e3 rfl rfl ne_mi (fun _ _ _ => rfl) (av_si rfl)) (hS.put e2 e3 (hR.inA ha.nz))
theorem th_zast (hx : p.tables.exec = Jvm.exec) (hb : c.code = cc) (hK : th_K D s) {a : Nat} {i x : Int32} (hR : th_H D B G H) (hS : va_S (th_A B) s.heap H locs) (ha : th_ai G a 2 i) (hdg : decode cc pc = .ok (.bastore, 1))
    (kk : ∀ (G1 : aH) (H1 : Heap) (locs1 : List Loc), G1 = a_si G a i.toNatClampNeg (x &&& 1) → th_H D B G1 H1 → va_S (th_A B) s.heap H1 locs1 → W p l e R s m args below meth c H1 locs1 cells slots Q (F0 m (pc + 1) ls rest)) : W p l e R s m args below meth c H locs cells slots Q (F0 m pc ls (.int x :: .int i :: rv a :: rest)) := by
  rw [rv_pos (hR.pos ha.nz)]
  refine W.zast hx hb (th_acell hR (j := 2) (by decide) ha.1) (hK.arr (j := 2) (by decide) _ _) (fun q => by cases q) (by rw [arrV_size]; intro q; rcases q with q | q; exact ha.2.1 q; have := ha.2.2; omega) rfl rfl hdg fun H1 e1 e2 e3 => ?_
  exact kk _ H1 _ rfl (th_arrput (j := 2) (i := i.toNatClampNeg) (v := .int (x &&& 1)) hR (by decide) (th_shp ha.1) e1 e2 e3 rfl rfl ne_mi (fun _ _ _ => rfl) (av_si rfl)) (hS.put e2 e3 (hR.inA ha.nz))
theorem th_aast (hx : p.tables.exec = Jvm.exec) (hb : c.code = cc) (hK : th_K D s) (j : Nat) {E : String} {a v ci : Nat} {q : vw_C} {i : Int32} (hj : j < 11) (hE : ATY j = .object E) (hq : CLS[ci]? = some q) (hcast : q.1 = E ∨ Cond.castable q.1 E ∈ lw_tbl) (hR : th_H D B G H) (hS : va_S (th_A B) s.heap H locs) (ha : th_ai G a j i) (hov : th_o G v ci) (hdg : decode cc pc = .ok (.aastore, 1))
    (kk : ∀ (G1 : aH) (H1 : Heap) (locs1 : List Loc), G1 = a_sr G a i.toNatClampNeg v → th_H D B G1 H1 → va_S (th_A B) s.heap H1 locs1 → W p l e R s m args below meth c H1 locs1 cells slots Q (F0 m (pc + 1) ls rest)) : W p l e R s m args below meth c H locs cells slots Q (F0 m pc ls (rv v :: .int i :: rv a :: rest)) := by
  have hnv := hR.pos hov.nz
  rw [rv_pos (hR.pos ha.nz), rv_pos hnv]
  have hra := (hK.1.2 j _ (TYS_at D hj)).2
  rw [show ((D.2 j, ATY j) : ClassId × FieldType).2 = .object E from hE] at hra
  obtain ⟨kA, comp, k1, k2, k3, -⟩ := hra
  obtain ⟨cellV, g1, g2, g3⟩ := th_ce hK hR hov hq
  have hat := (hK.1.1 ci q hq).2
  obtain ⟨hfc, kC, hkC, hkind⟩ := hat
  have e0 : cellV.cls = D.1.1 ci := Option.some.inj (g3.symm.trans hfc)
  have hcomp : ∃ kc, s.vm.classes[comp]? = some kc := by
    obtain ⟨kc, h9, -⟩ := Vm.findClass_spec k3
    exact ⟨kc, h9⟩
  obtain ⟨kc, hkc⟩ := hcomp
  have hass : s.vm.assignable cellV.cls comp = true := by
    rcases hcast with h | h
    · rw [h] at g3
      have e1 : cellV.cls = comp := Option.some.inj (g3.symm.trans k3)
      rw [← e1, e0]
      exact va_assign ⟨hfc, kC, hkC, hkind⟩
    · obtain ⟨c3, c4, hc3, hc4, hasg⟩ := Cond.castable_spec (va_Nw.use (A := #[]) rfl (hK.2.1 _ h rfl))
      cases Option.some.inj (hc3.symm.trans g3)
      cases Option.some.inj (hc4.symm.trans k3)
      exact hasg
  refine W.aast hx hb (th_acell hR hj ha.1) (fun q h => by cases h) (fun h => by cases h) k1 k2 rfl hkc ⟨ha.2.1, by rw [arrV_size]; exact ha.2.2⟩ g1 (fun q h => by rw [g2] at h; cases h) (by rw [e0]; exact hkC) hass rfl rfl hdg fun H1 e1 e2 e3 => ?_
  exact kk _ H1 _ rfl (th_arrput (j := j) (i := i.toNatClampNeg) (v := .ref v) hR hj (th_shp ha.1) e1 e2 e3 rfl rfl (fun _ _ _ => rfl) ne_mr (by rw [← rv_pos hnv]; exact av_sr (by rw [hE]; rfl))) (hS.put e2 e3 (hR.inA ha.nz))
/-! new things -/
theorem th_Snew {H1 : Heap} {H0 : Heap} (hS : va_S (th_A B) H0 H locs) (z1 : H1.size = H.size + 1) (o1 : ∀ q, q < H.size → H1[q]? = H[q]?) : va_S (th_A B) H0 H1 locs :=
  ⟨Nat.le_trans hS.1 (by omega), fun x h1 h2 => (o1 x (Nat.lt_of_lt_of_le h1 hS.1)).trans (hS.2.1 x h1 h2), hS.2.2⟩
theorem th_inst_sz {C : String} {sn : Nat} {cC : ClassId} {kC : Class} (h : (Cond.instantiable C sn).before args s = true) (hfc : s.vm.findClass C = some cC) (hkC : s.vm.classes[cC]? = some kC) : sn ≤ (blank cC kC).slots.size := by
  obtain ⟨c', k', h1, h2, -, -, -, h3⟩ := Cond.instantiable_spec h
  cases hfc.symm.trans h1
  cases hkC.symm.trans h2
  simp [blank, h3]
theorem th_new (hx : p.tables.exec = Jvm.exec) (hb : c.code = cc) {own C : String} {T : u_T} {N ci index : Nat} (hts : ∀ w ∈ lw_all, w.before args s = true) (hin : ∀ w ∈ u_ws C T N, w ∈ lw_all) (hty : ∀ k, k < N → parseFieldDescriptor (T k).2.2.1 = some (tyOf ci k)) (hdef : ∀ k, k < N → defaultValue (tyOf ci k) = (match th_rf (tyOf ci k) with | true => .null | false => .int 0)) (hown : s.vm.findClass own = some m.cls) (hcl : (Cond.classLink own index C).before args s = true) {sn : Nat} (hSZ : sn = SZ ci) (hinst : (Cond.instantiable C sn).before args s = true) (hini : (Cond.initialized C).before args s = true)
    (hK : th_K D s) (hc : CLS[ci]? = some (C, T, N)) (hR : th_H D B G H) (hS : va_S (th_A B) s.heap H locs) (hcells : cells + 1 ≤ R.cells) (hslots : slots + sn ≤ R.slots) (hdg : decode cc pc = .ok (.new index, 3))
    (kk : ∀ (z : Nat) (G1 : aH) (H1 : Heap), z = a_sz G → G1 = a_nw G (ci + 1) 0 → th_H D B G1 H1 → va_S (th_A B) s.heap H1 locs → W p l e R s m args below meth c H1 locs (cells + 1) (slots + sn) Q (F0 m (pc + 3) ls (rv z :: rest))) : W p l e R s m args below meth c H locs cells slots Q (F0 m pc ls rest) := by
  have hKn := hK.1.1 ci _ hc
  have hsz9 : sn = SZ ci := hSZ
  refine W.newcK hx hb hown hcl hinst hini rfl hdg hcells hslots hKn.2.1 rfl fun H1 kC hkC e1 z1 o1 => ?_
  have hz : H.size = a_sz G := hR.1
  have hpos : a_sz G ≠ 0 := by have := hR.2.1; have := hR.2.2.1; omega
  have hOB := (u_born (tyOf ci) hts hin hKn hkC e1 hty)
  have k2 := kk _ _ H1 rfl rfl (hR.new (ci + 1) 0 z1 o1 ⟨fun ci' q g1 g2 => ?_, fun j n g1 g2 => ?_, fun ci' g1 g2 => ?_⟩) (th_Snew hS z1 o1)
  · rw [rv_pos hpos, ← hz] at k2
    exact k2
  · rw [sh_nw, if_pos rfl] at g1
    have e : ci' = ci := by simp at g1; exact g1.symm
    subst e
    cases hc.symm.trans g2
    rw [← hz]
    refine hOB.to (fun k hk => ?_)
    rw [hdef k hk]
    unfold cv
    rw [hz, mi_nw, mr_nw, if_pos rfl, if_pos rfl]
    cases th_rf (tyOf ci' k) <;> rfl
  · rw [sh_nw, if_pos rfl] at g1
    have hl := cls_lt hc
    simp at g1
    omega
  · rw [sh_nw, if_pos rfl] at g1
    have e : ci' = ci := by simp at g1; exact g1.symm
    subst e
    rw [← hz]
    refine ⟨_, e1, ?_, rfl, rfl⟩
    rw [← hsz9]
    exact th_inst_sz hinst hKn.2.1 hkC
theorem th_arrnew {H1 : Heap} {j N : Nat} {v : Value} (hR : th_H D B G H) (hj : j < 11) (z1 : H1.size = H.size + 1) (o1 : ∀ q, q < H.size → H1[q]? = H[q]?) (e1 : H1[H.size]? = some (arrV (D.2 j) N (fun _ => v))) (hv : v = (match th_rf (ATY j) with | true => .null | false => .int 0)) : th_H D B (a_nw G (100 + j) N) H1 := by
  have hz : H.size = a_sz G := hR.1
  refine hR.new (100 + j) N z1 o1 ⟨fun ci' q g1 g2 => ?_, fun j' n g1 g2 => ?_, fun ci' g1 g2 => by rw [sh_nw, if_pos rfl] at g1; simp at g1; omega⟩
  · rw [sh_nw, if_pos rfl] at g1
    have hl := cls_lt g2
    simp at g1
    omega
  · rw [sh_nw, if_pos rfl] at g1
    simp at g1
    obtain ⟨g3, g4⟩ := g1
    have g5 : j' = j := by omega
    subst g5
    subst g4
    rw [← hz, e1]
    have e : (fun _ => v : Nat → Value) = av j' (a_nw G (100 + j') N) H.size := by
      funext k
      unfold av
      rw [hv]
      cases th_rf (ATY j') with
      | true =>
        show Value.null = rv (a_mr (a_nw G (100 + j') N) H.size k)
        rw [mr_nw, hz, if_pos rfl]
        rfl
      | false =>
        show Value.int 0 = .int (a_mi (a_nw G (100 + j') N) H.size k)
        rw [mi_nw, hz, if_pos rfl]
    rw [e]
theorem th_dfl {j : Nat} (hj : j < 3) : defaultValue (ATY j) = (match th_rf (ATY j) with | true => .null | false => .int 0) := by
  have h3 : j = 0 ∨ j = 1 ∨ j = 2 := by omega
  rcases h3 with h | h | h <;> subst h <;> rfl
theorem th_newa (hx : p.tables.exec = Jvm.exec) (hb : c.code = cc) (j : Nat) {atype : ArrayType} (harr : (Cond.arrayClass (newarray.typeOf atype)).before args s = true) (hty : newarray.typeOf atype = ATY j) (hj : j < 3) {n : Int32} (N : Nat) (hn : ¬ n < 0) (hN : n.toNatClampNeg = N) (hbytes : N * componentBytes (newarray.typeOf atype) ≤ 536870912) (hK : th_K D s) (hR : th_H D B G H) (hS : va_S (th_A B) s.heap H locs) (hcells : cells + 1 ≤ R.cells) (hslots : slots + N ≤ R.slots) (hdg : decode cc pc = .ok (.newarray atype, 2))
    (kk : ∀ (z : Nat) (G1 : aH) (H1 : Heap), z = a_sz G → G1 = a_nw G (100 + j) N → th_H D B G1 H1 → va_S (th_A B) s.heap H1 locs → W p l e R s m args below meth c H1 locs (cells + 1) (slots + N) Q (F0 m (pc + 2) ls (rv z :: rest))) : W p l e R s m args below meth c H locs cells slots Q (F0 m pc ls (.int n :: rest)) := by
  refine va_newaK hx hb harr rfl hdg rfl hn hN hbytes hcells hslots rfl fun H1 cA e1 z1 o1 hAr hNm => ?_
  have hpos : a_sz G ≠ 0 := by have := hR.2.1; have := hR.2.2.1; omega
  have hra := (hK.1.2 j _ (TYS_at D (by omega))).2
  have hcA : cA = D.2 j := by
    rw [hty] at hNm
    have h3 : j = 0 ∨ j = 1 ∨ j = 2 := by omega
    rcases h3 with h | h | h <;> subst h <;> exact Option.some.inj (hNm.symm.trans hra)
  rw [hcA, hty] at e1
  have k2 := kk _ _ H1 rfl rfl (th_arrnew (j := j) hR (by omega) z1 o1 e1 (th_dfl hj)) (th_Snew hS z1 o1)
  rw [rv_pos hpos, ← hR.1] at k2
  exact k2
theorem th_newq (hx : p.tables.exec = Jvm.exec) (hb : c.code = cc) (j : Nat) {own C : String} {index : Nat} (hown : s.vm.findClass own = some m.cls) (hclink : (Cond.classLink own index C).before args s = true) (hover : Cond.arrayOver (.object C) ∈ lw_tbl) (hty : ATY j = .object C) (hj : j < 11) {n : Int32} (N : Nat) (hn : ¬ n < 0) (hN : n.toNatClampNeg = N) (hbytes : N * 4 ≤ 536870912) (hK : th_K D s) (hR : th_H D B G H) (hS : va_S (th_A B) s.heap H locs) (hcells : cells + 1 ≤ R.cells) (hslots : slots + N ≤ R.slots) (hdg : decode cc pc = .ok (.anewarray index, 3))
    (kk : ∀ (z : Nat) (G1 : aH) (H1 : Heap), z = a_sz G → G1 = a_nw G (100 + j) N → th_H D B G1 H1 → va_S (th_A B) s.heap H1 locs → W p l e R s m args below meth c H1 locs (cells + 1) (slots + N) Q (F0 m (pc + 3) ls (rv z :: rest))) : W p l e R s m args below meth c H locs cells slots Q (F0 m pc ls (.int n :: rest)) := by
  subst hN
  have hover := va_AO.use (A := args) (hK.2.1 _ hover rfl)
  refine W.anew hx hb hown hclink hover rfl hdg rfl hn hbytes hcells hslots fun cA kA comp f1 f2 f3 f4 => ?_
  generalize hH1 : H.push ({ cls := cA, slots := Array.replicate n.toNatClampNeg .null, vm := .none } : Cell) = H1
  have z1 : H1.size = H.size + 1 := by rw [← hH1, Array.size_push]
  have e1 : H1[H.size]? = some (arrV cA n.toNatClampNeg (fun _ => .null)) := by rw [← hH1, Array.getElem?_push_size, ← arrV_new]
  have o1 : ∀ q : Nat, q < H.size → H1[q]? = H[q]? := fun q hq => by rw [← hH1, Array.getElem?_push, if_neg (Nat.ne_of_lt hq)]
  have hpos : a_sz G ≠ 0 := by have := hR.2.1; have := hR.2.2.1; omega
  have hra := (hK.1.2 j _ (TYS_at D hj)).2
  rw [show ((D.2 j, ATY j) : ClassId × FieldType).2 = .object C from hty] at hra
  obtain ⟨kA', comp', k1, k2, k3, k4⟩ := hra
  have hcA : cA = D.2 j := Option.some.inj (f1.symm.trans k4)
  rw [hcA] at e1
  have k2 := kk _ _ H1 rfl rfl (th_arrnew (j := j) hR hj z1 o1 e1 (by rw [hty]; rfl)) (th_Snew hS z1 o1)
  rw [rv_pos hpos, ← hR.1] at k2
  exact k2
/-! casts -/
theorem th_cast0 (hx : p.tables.exec = Jvm.exec) (hb : c.code = cc) {index : Nat} (hdg : decode cc pc = .ok (.checkcast index, 3)) (kk : W p l e R s m args below meth c H locs cells slots Q (F0 m (pc + 3) ls (rv 0 :: rest))) : W p l e R s m args below meth c H locs cells slots Q (F0 m pc ls (rv 0 :: rest)) := lv_castN hx hb hdg kk
theorem th_cast (hx : p.tables.exec = Jvm.exec) (hb : c.code = cc) {own : String} {index a ci : Nat} {q : vw_C} (hown : s.vm.findClass own = some m.cls) (hq : CLS[ci]? = some q) (hlink : (Cond.classLink own index q.1).before args s = true) (hK : th_K D s) (hR : th_H D B G H) (ho : a = 0 ∨ th_o G a ci) (hdg : decode cc pc = .ok (.checkcast index, 3))
    (kk : W p l e R s m args below meth c H locs cells slots Q (F0 m (pc + 3) ls (rv a :: rest))) : W p l e R s m args below meth c H locs cells slots Q (F0 m pc ls (rv a :: rest)) := by
  rcases ho with h | ho
  · subst h
    exact th_cast0 hx hb hdg kk
  · rw [rv_pos (hR.pos ho.nz)] at kk ⊢
    exact va_castS hx hb hown hlink (hK.1.1 ci q hq).2 (th_recv hK hR ho hq) hdg kk
theorem th_inst (hx : p.tables.exec = Jvm.exec) (hb : c.code = cc) {own : String} {index a ci : Nat} {q : vw_C} (hown : s.vm.findClass own = some m.cls) (hq : CLS[ci]? = some q) (hlink : (Cond.classLink own index q.1).before args s = true) (hK : th_K D s) (hR : th_H D B G H) (ho : th_o G a ci) (hdg : decode cc pc = .ok (.instanceof index, 3))
    (kk : W p l e R s m args below meth c H locs cells slots Q (F0 m (pc + 3) ls (.int 1 :: rest))) : W p l e R s m args below meth c H locs cells slots Q (F0 m pc ls (rv a :: rest)) := by
  rw [rv_pos (hR.pos ho.nz)]
  exact va_instS hx hb hown hlink (hK.1.1 ci q hq).2 (th_recv hK hR ho hq) hdg kk
theorem th_inst0 (hx : p.tables.exec = Jvm.exec) (hb : c.code = cc) {index : Nat} (hdg : decode cc pc = .ok (.instanceof index, 3)) (kk : W p l e R s m args below meth c H locs cells slots Q (F0 m (pc + 3) ls (.int 0 :: rest))) : W p l e R s m args below meth c H locs cells slots Q (F0 m pc ls (rv 0 :: rest)) := lv_instN hx hb hdg kk
theorem th_instN (hx : p.tables.exec = Jvm.exec) (hb : c.code = cc) {own nm : String} {index a ci : Nat} {q : vw_C} (hown : s.vm.findClass own = some m.cls) (hq : CLS[ci]? = some q) (hlink : (Cond.classLink own index nm).before args s = true) (hN : va_Nc q.1 nm s) (hK : th_K D s) (hR : th_H D B G H) (ho : th_o G a ci) (hdg : decode cc pc = .ok (.instanceof index, 3))
    (kk : W p l e R s m args below meth c H locs cells slots Q (F0 m (pc + 3) ls (.int 0 :: rest))) : W p l e R s m args below meth c H locs cells slots Q (F0 m pc ls (rv a :: rest)) := by
  rw [rv_pos (hR.pos ho.nz)]
  exact va_instNo hx hb hown hlink hN (th_recv hK hR ho hq) hdg kk
/-! ends -/
theorem th_iret {K : Int32 → aH → Prop} {mc ms : Nat} {x : Int32} (hx : p.tables.exec = Jvm.exec) (hb : c.code = cc) (hr : meth.sig.returnType = some .int) (hlk : meth.locks = false) (hR : th_H D B G H) (hS : va_S (th_A B) s.heap H locs) (hw : K x G) (h1 : cells ≤ mc) (h2 : slots ≤ ms) (hdg : decode cc pc = .ok (.ireturn, 1)) : W p l e R s m args below meth c H locs cells slots (MQ below (th_Qi D B K) args s mc ms (th_A B)) (F0 m pc ls [.int x]) :=
  W.widen h1 h2 (W.iret hx hb hr (fun t ht _ => ⟨⟨x, G, rfl, hw, th_at hR ht⟩, hS.F ht⟩) hS.2.2 hdg hlk)
theorem th_zret {K : Int32 → aH → Prop} {mc ms : Nat} {x : Int32} (ty : FieldType) (hx : p.tables.exec = Jvm.exec) (hb : c.code = cc) (hr : meth.sig.returnType = some ty) (hn : narrow ty (.int x) = .int x) (hlk : meth.locks = false) (hR : th_H D B G H) (hS : va_S (th_A B) s.heap H locs) (hw : K x G) (h1 : cells ≤ mc) (h2 : slots ≤ ms) (hdg : decode cc pc = .ok (.ireturn, 1)) : W p l e R s m args below meth c H locs cells slots (MQ below (th_Qi D B K) args s mc ms (th_A B)) (F0 m pc ls [.int x]) :=
  W.widen h1 h2 (W.zret hx hb hr hn (fun t ht _ => ⟨⟨x, G, rfl, hw, th_at hR ht⟩, hS.F ht⟩) hS.2.2 hdg hlk)
theorem th_vret {K : aH → Prop} {mc ms : Nat} (hx : p.tables.exec = Jvm.exec) (hb : c.code = cc) (hr : meth.sig.returnType = none) (hlk : meth.locks = false) (hR : th_H D B G H) (hS : va_S (th_A B) s.heap H locs) (hw : K G) (h1 : cells ≤ mc) (h2 : slots ≤ ms) (hdg : decode cc pc = .ok (.return_, 1)) : W p l e R s m args below meth c H locs cells slots (MQ below (th_Qv D B K) args s mc ms (th_A B)) (F0 m pc ls []) :=
  W.widen h1 h2 (W.vret hx hb hr (fun t ht _ => ⟨⟨G, rfl, hw, th_at hR ht⟩, hS.F ht⟩) hS.2.2 hdg hlk)
theorem th_aret {K : Nat → aH → Prop} {mc ms x : Nat} {rt : FieldType} (hx : p.tables.exec = Jvm.exec) (hb : c.code = cc) (hr : meth.sig.returnType = some rt) (hrt : (∃ n, rt = .object n) ∨ ∃ t, rt = .array t) (hlk : meth.locks = false) (hR : th_H D B G H) (hS : va_S (th_A B) s.heap H locs) (hw : K x G) (h1 : cells ≤ mc) (h2 : slots ≤ ms) (hdg : decode cc pc = .ok (.areturn, 1)) : W p l e R s m args below meth c H locs cells slots (MQ below (th_Qr D B K) args s mc ms (th_A B)) (F0 m pc ls [rv x]) :=
  W.widen h1 h2 (W.aret hx hb hr hrt (by unfold rv; split; exact Or.inl rfl; exact Or.inr ⟨_, rfl⟩) (fun t ht _ => ⟨⟨x, G, rfl, hw, th_at hR ht⟩, hS.F ht⟩) hS.2.2 hdg hlk)
theorem th_fret {K : UInt32 → aH → Prop} {mc ms : Nat} {x : UInt32} (hx : p.tables.exec = Jvm.exec) (hb : c.code = cc) (hr : meth.sig.returnType = some .float) (hlk : meth.locks = false) (hR : th_H D B G H) (hS : va_S (th_A B) s.heap H locs) (hw : K x G) (h1 : cells ≤ mc) (h2 : slots ≤ ms) (hdg : decode cc pc = .ok (.freturn, 1)) : W p l e R s m args below meth c H locs cells slots (MQ below (th_Qf D B K) args s mc ms (th_A B)) (F0 m pc ls [.float x]) :=
  W.widen h1 h2 (W.fret hx hb hr (fun t ht _ => ⟨⟨x, G, rfl, hw, th_at hR ht⟩, hS.F ht⟩) hS.2.2 hdg hlk)
theorem th_dret {K : UInt64 → aH → Prop} {mc ms : Nat} {x : UInt64} (hx : p.tables.exec = Jvm.exec) (hb : c.code = cc) (hr : meth.sig.returnType = some .double) (hlk : meth.locks = false) (hR : th_H D B G H) (hS : va_S (th_A B) s.heap H locs) (hw : K x G) (h1 : cells ≤ mc) (h2 : slots ≤ ms) (hdg : decode cc pc = .ok (.dreturn, 1)) : W p l e R s m args below meth c H locs cells slots (MQ below (th_Qd D B K) args s mc ms (th_A B)) (F0 m pc ls [.double x]) :=
  W.widen h1 h2 (W.dret hx hb hr (fun t ht _ => ⟨⟨x, G, rfl, hw, th_at hR ht⟩, hS.F ht⟩) hS.2.2 hdg hlk)
/-! calls: what runs -/
variable {y : MethodName} {bytes : ByteArray} {maxL mc ms n index : Nat} {ret : Option FieldType} {ws : List Cond} {rm : Room} {Qc : Array Value → State → Outcome → State → Prop} {own : String} {b ci : Nat} {q : vw_C} {As st0 : List Value} {w : aH → Prop}
theorem th_w8 (h : th_c1 rest) (hl : rest.length ≤ 8) : 2 * (F0 m pc ls st0).monitorRoom + (rest.map fun v => v.category).sum ≤ 8 := by
  show 2 * 0 + _ ≤ 8
  rw [h.sum]
  omega
theorem th_preV {b : Nat} (hK : th_K D s) (hSt : th_St B s s.heap) (hR : th_H D B G H) (hS : va_S (th_A B) s.heap H locs) (ho : th_o G b ci) (hq : CLS[ci]? = some q) (hw : w G) : PreV s H q.1 b (th_P D B (rv b :: As) w) As := by
  refine ⟨th_P.blind, th_recv hK hR ho hq, fun U hU hW => ?_⟩
  have h := th_P.at (as := rv b :: As) hK hSt hR hS hw hU hW
  rw [rv_pos (hR.pos ho.nz)] at h ⊢
  exact h
theorem th_preS (hK : th_K D s) (hSt : th_St B s s.heap) (hR : th_H D B G H) (hS : va_S (th_A B) s.heap H locs) (hw : w G) : PreS s H (th_P D B As w) As :=
  ⟨th_P.blind, fun _ hU hW => th_P.at hK hSt hR hS hw hU hW⟩
theorem th_rV (hC : CallFix p m c cc nL s args lw_all own) (hK : th_K D s) (hSt : th_St B s s.heap) (hR : th_H D B G H) (hS : va_S (th_A B) s.heap H locs) (ho : th_o G b ci) (hq : CLS[ci]? = some q) (hM : Met l y ws rm (th_P D B (rv b :: As) w) Qc mc ms (th_A B)) (cw : CallW R s args own q.1 index y bytes maxL ret ws rm mc ms n) (hw : w G)
    (hn : As.length = n) (hsz : ls.size = nL) (hst : st0 = As.reverse ++ rv b :: rest) (hc1 : th_c1 rest) (hlen : rest.length ≤ 8) (hdg : decode cc pc = .ok (.invokevirtual index, 3)) (hf : cells + mc ≤ R.cells ∧ slots + ms ≤ R.slots) :
    va_Run p l e R s m args below meth c H locs cells slots mc ms (F0 m pc ls st0) rest (Qc (rv b :: As).toArray) (th_A B) := by
  have h := va_runV (e := e) (below := below) (meth := meth) (As := As) (rest := rest) (g := F0 m pc ls st0) (H := H) (locs := locs) hC hM cw (th_preV hK hSt hR hS ho hq hw) rfl hn hsz (by rw [← rv_pos (hR.pos ho.nz)]; exact hst) (th_w8 hc1 hlen) hdg hf
  rw [← rv_pos (hR.pos ho.nz)] at h
  exact h
theorem th_rVN {host : String} (hC : CallFix p m c cc nL s args lw_all own) (hK : th_K D s) (hSt : th_St B s s.heap) (hR : th_H D B G H) (hS : va_S (th_A B) s.heap H locs) (ho : th_o G b ci) (hq : CLS[ci]? = some q) (hM : Met l y ws rm (th_P D B (rv b :: As) w) Qc mc ms (th_A B)) (cw : va_CN R s args own index y host bytes maxL ret ws rm mc ms n ∧ (Cond.instanceMethod y).before args s = true ∧ (Cond.selects q.1 y y).before args s = true) (hw : w G)
    (hn : As.length = n) (hsz : ls.size = nL) (hst : st0 = As.reverse ++ rv b :: rest) (hc1 : th_c1 rest) (hlen : rest.length ≤ 8) (hdg : decode cc pc = .ok (.invokevirtual index, 3)) (hf : cells + mc ≤ R.cells ∧ slots + ms ≤ R.slots) :
    va_Run p l e R s m args below meth c H locs cells slots mc ms (F0 m pc ls st0) rest (Qc (rv b :: As).toArray) (th_A B) := by
  have h := va_runVN (e := e) (below := below) (meth := meth) (As := As) (rest := rest) (g := F0 m pc ls st0) (H := H) (locs := locs) hC hM cw (th_preV hK hSt hR hS ho hq hw) rfl hn hsz (by rw [← rv_pos (hR.pos ho.nz)]; exact hst) (th_w8 hc1 hlen) hdg hf
  rw [← rv_pos (hR.pos ho.nz)] at h
  exact h
theorem th_rU {owner : String} {x : MethodName} (hC : CallFix p m c cc nL s args lw_all own) (hK : th_K D s) (hSt : th_St B s s.heap) (hR : th_H D B G H) (hS : va_S (th_A B) s.heap H locs) (ho : th_o G b ci) (hq : CLS[ci]? = some q) (hM : Met l y ws rm (th_P D B (rv b :: As) w) Qc mc ms (th_A B)) (cw : va_CU R s args own q.1 owner index x y bytes maxL ret ws rm mc ms n) (hw : w G)
    (hn : As.length = n) (hsz : ls.size = nL) (hst : st0 = As.reverse ++ rv b :: rest) (hc1 : th_c1 rest) (hlen : rest.length ≤ 8) (hdg : decode cc pc = .ok (.invokevirtual index, 3)) (hf : cells + mc ≤ R.cells ∧ slots + ms ≤ R.slots) :
    va_Run p l e R s m args below meth c H locs cells slots mc ms (F0 m pc ls st0) rest (Qc (rv b :: As).toArray) (th_A B) := by
  have h := va_runU (e := e) (below := below) (meth := meth) (As := As) (rest := rest) (g := F0 m pc ls st0) (H := H) (locs := locs) hC hM cw (th_preV hK hSt hR hS ho hq hw) rfl hn hsz (by rw [← rv_pos (hR.pos ho.nz)]; exact hst) (th_w8 hc1 hlen) hdg hf
  rw [← rv_pos (hR.pos ho.nz)] at h
  exact h
theorem th_rF {x : MethodName} {count : Nat} (hC : CallFix p m c cc nL s args lw_all own) (hK : th_K D s) (hSt : th_St B s s.heap) (hR : th_H D B G H) (hS : va_S (th_A B) s.heap H locs) (ho : th_o G b ci) (hq : CLS[ci]? = some q) (hM : Met l y ws rm (th_P D B (rv b :: As) w) Qc mc ms (th_A B)) (cw : va_CI R s args own q.1 index x y bytes maxL ret ws rm mc ms n) (hw : w G)
    (hn : As.length = n) (hsz : ls.size = nL) (hst : st0 = As.reverse ++ rv b :: rest) (hc1 : th_c1 rest) (hlen : rest.length ≤ 8) (hdg : decode cc pc = .ok (.invokeinterface index count, 5)) (hf : cells + mc ≤ R.cells ∧ slots + ms ≤ R.slots) :
    va_Run5 p l e R s m args below meth c H locs cells slots mc ms (F0 m pc ls st0) rest (Qc (rv b :: As).toArray) (th_A B) := by
  have h := va_runF (e := e) (below := below) (meth := meth) (As := As) (rest := rest) (g := F0 m pc ls st0) (H := H) (locs := locs) (hK.1.1 ci q hq).2 hC hM cw (th_preV hK hSt hR hS ho hq hw) rfl hn hsz (by rw [← rv_pos (hR.pos ho.nz)]; exact hst) (th_w8 hc1 hlen) hdg hf
  rw [← rv_pos (hR.pos ho.nz)] at h
  exact h
theorem th_rS (hC : CallFix p m c cc nL s args lw_all own) (hK : th_K D s) (hSt : th_St B s s.heap) (hR : th_H D B G H) (hS : va_S (th_A B) s.heap H locs) (hM : Met l y ws rm (th_P D B As w) Qc mc ms (th_A B)) (cw : CallB R s args own index y bytes maxL ret ws rm mc ms n ∧ (Cond.static y).before args s = true) (hw : w G)
    (hn : As.length = n) (hsz : ls.size = nL) (hst : st0 = As.reverse ++ rest) (hc1 : th_c1 rest) (hlen : rest.length ≤ 8) (hdg : decode cc pc = .ok (.invokestatic index, 3)) (hf : cells + mc ≤ R.cells ∧ slots + ms ≤ R.slots) :
    va_Run p l e R s m args below meth c H locs cells slots mc ms (F0 m pc ls st0) rest (Qc As.toArray) (th_A B) :=
  va_runS (As := As) (rest := rest) (g := F0 m pc ls st0) (H := H) (locs := locs) hC hM cw (th_preS hK hSt hR hS hw) rfl hn hsz hst (th_w8 hc1 hlen) hdg hf
theorem th_rSN {host : String} (hC : CallFix p m c cc nL s args lw_all own) (hK : th_K D s) (hSt : th_St B s s.heap) (hR : th_H D B G H) (hS : va_S (th_A B) s.heap H locs) (hM : Met l y ws rm (th_P D B As w) Qc mc ms (th_A B)) (cw : va_CN R s args own index y host bytes maxL ret ws rm mc ms n ∧ (Cond.static y).before args s = true ∧ True) (hw : w G)
    (hn : As.length = n) (hsz : ls.size = nL) (hst : st0 = As.reverse ++ rest) (hc1 : th_c1 rest) (hlen : rest.length ≤ 8) (hdg : decode cc pc = .ok (.invokestatic index, 3)) (hf : cells + mc ≤ R.cells ∧ slots + ms ≤ R.slots) :
    va_Run p l e R s m args below meth c H locs cells slots mc ms (F0 m pc ls st0) rest (Qc As.toArray) (th_A B) :=
  va_runSN (As := As) (rest := rest) (g := F0 m pc ls st0) (H := H) (locs := locs) hC hM cw (th_preS hK hSt hR hS hw) rfl hn hsz hst (th_w8 hc1 hlen) hdg hf
theorem th_rI (hC : CallFix p m c cc nL s args lw_all own) (hK : th_K D s) (hSt : th_St B s s.heap) (hR : th_H D B G H) (hS : va_S (th_A B) s.heap H locs) (hb0 : (a_sh G b).1 ≠ 0) (hM : Met l y ws rm (th_P D B (rv b :: As) w) Qc mc ms (th_A B)) (cw : CallB R s args own index y bytes maxL none ws rm mc ms n ∧ y.name = "<init>" ∧ (Cond.instanceMethod y).before args s = true) (hw : w G)
    (hn : As.length = n) (hsz : ls.size = nL) (hst : st0 = As.reverse ++ rv b :: rest) (hc1 : th_c1 rest) (hlen : rest.length ≤ 8) (hdg : decode cc pc = .ok (.invokespecial index, 3)) (hf : cells + mc ≤ R.cells ∧ slots + ms ≤ R.slots) :
    va_Run p l e R s m args below meth c H locs cells slots mc ms (F0 m pc ls st0) rest (Qc (rv b :: As).toArray) (th_A B) := by
  have hp : PreS s H (th_P D B (rv b :: As) w) (.ref b :: As) := by
    have h := th_preS (As := rv b :: As) hK hSt hR hS hw
    exact ⟨h.1, fun U h1 h2 => by have h3 := h.2 U h1 h2; rw [rv_pos (hR.pos hb0)] at h3 ⊢; exact h3⟩
  have h := va_runI (e := e) (below := below) (meth := meth) (As := As) (rest := rest) (g := F0 m pc ls st0) (H := H) (locs := locs) hC hM cw hp rfl hn hsz (by rw [← rv_pos (hR.pos hb0)]; exact hst) (th_w8 hc1 hlen) hdg hf
  rw [← rv_pos (hR.pos hb0)] at h
  exact h
theorem th_rIN {host : String} (hC : CallFix p m c cc nL s args lw_all own) (hK : th_K D s) (hSt : th_St B s s.heap) (hR : th_H D B G H) (hS : va_S (th_A B) s.heap H locs) (hb0 : (a_sh G b).1 ≠ 0) (hM : Met l y ws rm (th_P D B (rv b :: As) w) Qc mc ms (th_A B)) (cw : va_CN R s args own index y host bytes maxL none ws rm mc ms n ∧ y.name = "<init>" ∧ (Cond.instanceMethod y).before args s = true) (hw : w G)
    (hn : As.length = n) (hsz : ls.size = nL) (hst : st0 = As.reverse ++ rv b :: rest) (hc1 : th_c1 rest) (hlen : rest.length ≤ 8) (hdg : decode cc pc = .ok (.invokespecial index, 3)) (hf : cells + mc ≤ R.cells ∧ slots + ms ≤ R.slots) :
    va_Run p l e R s m args below meth c H locs cells slots mc ms (F0 m pc ls st0) rest (Qc (rv b :: As).toArray) (th_A B) := by
  have hp : PreS s H (th_P D B (rv b :: As) w) (.ref b :: As) := by
    have h := th_preS (As := rv b :: As) hK hSt hR hS hw
    exact ⟨h.1, fun U h1 h2 => by have h3 := h.2 U h1 h2; rw [rv_pos (hR.pos hb0)] at h3 ⊢; exact h3⟩
  have h := va_runIN (e := e) (below := below) (meth := meth) (As := As) (rest := rest) (g := F0 m pc ls st0) (H := H) (locs := locs) hC hM cw hp rfl hn hsz (by rw [← rv_pos (hR.pos hb0)]; exact hst) (th_w8 hc1 hlen) hdg hf
  rw [← rv_pos (hR.pos hb0)] at h
  exact h
/-! calls: how it goes on -/
variable {a : Array Value}
theorem th_ki {K : Int32 → aH → Prop} (hS : va_S (th_A B) s.heap H locs) (hr : va_Run p l e R s m args below meth c H locs cells slots mc ms (F0 m pc ls st0) rest (th_Qi D B K a) (th_A B))
    (kk : ∀ (r : Int32) (G1 : aH) (H1 : Heap) (locs1 : List Loc), K r G1 → th_H D B G1 H1 → va_S (th_A B) s.heap H1 locs1 → W p l e R s m args below meth c H1 locs1 (cells + mc) (slots + ms) Q (F0 m (pc + 3) ls (.int r :: rest))) : W p l e R s m args below meth c H locs cells slots Q (F0 m pc ls st0) :=
  va_calli hr hS (fun _ _ h => h) (fun _ h => h) (fun r u t H1 locs1 ht _ h1 h2 _ _ hS1 => kk r u H1 locs1 h1 (by rw [← ht]; exact h2) hS1)
theorem th_kv {K : aH → Prop} (hS : va_S (th_A B) s.heap H locs) (hr : va_Run p l e R s m args below meth c H locs cells slots mc ms (F0 m pc ls st0) rest (th_Qv D B K a) (th_A B))
    (kk : ∀ (G1 : aH) (H1 : Heap) (locs1 : List Loc), K G1 → th_H D B G1 H1 → va_S (th_A B) s.heap H1 locs1 → W p l e R s m args below meth c H1 locs1 (cells + mc) (slots + ms) Q (F0 m (pc + 3) ls rest)) : W p l e R s m args below meth c H locs cells slots Q (F0 m pc ls st0) :=
  va_callv hr hS (fun _ _ h => h) (fun _ h => h) (fun u t H1 locs1 ht _ h1 h2 _ _ hS1 => kk u H1 locs1 h1 (by rw [← ht]; exact h2) hS1)
theorem th_kf {K : UInt32 → aH → Prop} (hS : va_S (th_A B) s.heap H locs) (hr : va_Run p l e R s m args below meth c H locs cells slots mc ms (F0 m pc ls st0) rest (th_Qf D B K a) (th_A B))
    (kk : ∀ (r : UInt32) (G1 : aH) (H1 : Heap) (locs1 : List Loc), K r G1 → th_H D B G1 H1 → va_S (th_A B) s.heap H1 locs1 → W p l e R s m args below meth c H1 locs1 (cells + mc) (slots + ms) Q (F0 m (pc + 3) ls (.float r :: rest))) : W p l e R s m args below meth c H locs cells slots Q (F0 m pc ls st0) :=
  va_callf hr hS (fun _ _ h => h) (fun _ h => h) (fun r u t H1 locs1 ht _ h1 h2 _ _ hS1 => kk r u H1 locs1 h1 (by rw [← ht]; exact h2) hS1)
theorem th_kd {K : UInt64 → aH → Prop} (hS : va_S (th_A B) s.heap H locs) (hr : va_Run p l e R s m args below meth c H locs cells slots mc ms (F0 m pc ls st0) rest (th_Qd D B K a) (th_A B))
    (kk : ∀ (r : UInt64) (G1 : aH) (H1 : Heap) (locs1 : List Loc), K r G1 → th_H D B G1 H1 → va_S (th_A B) s.heap H1 locs1 → W p l e R s m args below meth c H1 locs1 (cells + mc) (slots + ms) Q (F0 m (pc + 3) ls (.double r :: rest))) : W p l e R s m args below meth c H locs cells slots Q (F0 m pc ls st0) :=
  va_calld hr hS (fun _ _ h => h) (fun _ h => h) (fun r u t H1 locs1 ht _ h1 h2 _ _ hS1 => kk r u H1 locs1 h1 (by rw [← ht]; exact h2) hS1)
theorem th_kr {K : Nat → aH → Prop} (hS : va_S (th_A B) s.heap H locs) (hr : va_Run p l e R s m args below meth c H locs cells slots mc ms (F0 m pc ls st0) rest (th_Qr D B K a) (th_A B))
    (kk : ∀ (r : Nat) (G1 : aH) (H1 : Heap) (locs1 : List Loc), K r G1 → th_H D B G1 H1 → va_S (th_A B) s.heap H1 locs1 → W p l e R s m args below meth c H1 locs1 (cells + mc) (slots + ms) Q (F0 m (pc + 3) ls (rv r :: rest))) : W p l e R s m args below meth c H locs cells slots Q (F0 m pc ls st0) := by
  intro T hT X
  obtain ⟨v, st₀, t, T', L, h0, X', hL, e1, e2, ⟨⟨r, u, hv, hp, hb⟩, hF⟩, st⟩ := hr T hT X
  cases hv
  obtain ⟨k1, k2, k3⟩ := vz_keep h0 e1 hS (fun _ _ h => h) (fun _ h => h) hL hF
  obtain ⟨t2, a1, b1⟩ := kk r u T'.heap (locs ++ L) hp (by rw [e1]; exact hb) k3 T' rfl X'
  exact ⟨t2, st t2 a1, b1⟩
theorem th_k5i {K : Int32 → aH → Prop} (hS : va_S (th_A B) s.heap H locs) (hr : va_Run5 p l e R s m args below meth c H locs cells slots mc ms (F0 m pc ls st0) rest (th_Qi D B K a) (th_A B))
    (kk : ∀ (r : Int32) (G1 : aH) (H1 : Heap) (locs1 : List Loc), K r G1 → th_H D B G1 H1 → va_S (th_A B) s.heap H1 locs1 → W p l e R s m args below meth c H1 locs1 (cells + mc) (slots + ms) Q (F0 m (pc + 5) ls (.int r :: rest))) : W p l e R s m args below meth c H locs cells slots Q (F0 m pc ls st0) :=
  va_callFi hr hS (fun _ _ h => h) (fun _ h => h) (fun r u t H1 locs1 ht _ h1 h2 _ _ hS1 => kk r u H1 locs1 h1 (by rw [← ht]; exact h2) hS1)
theorem th_k5r {K : Nat → aH → Prop} (hS : va_S (th_A B) s.heap H locs) (hr : va_Run5 p l e R s m args below meth c H locs cells slots mc ms (F0 m pc ls st0) rest (th_Qr D B K a) (th_A B))
    (kk : ∀ (r : Nat) (G1 : aH) (H1 : Heap) (locs1 : List Loc), K r G1 → th_H D B G1 H1 → va_S (th_A B) s.heap H1 locs1 → W p l e R s m args below meth c H1 locs1 (cells + mc) (slots + ms) Q (F0 m (pc + 5) ls (rv r :: rest))) : W p l e R s m args below meth c H locs cells slots Q (F0 m pc ls st0) := by
  intro T hT X
  obtain ⟨v, st₀, t, T', L, h0, X', hL, e1, e2, ⟨⟨r, u, hv, hp, hb⟩, hF⟩, st⟩ := hr T hT X
  cases hv
  obtain ⟨k1, k2, k3⟩ := vz_keep h0 e1 hS (fun _ _ h => h) (fun _ h => h) hL hF
  obtain ⟨t2, a1, b1⟩ := kk r u T'.heap (locs ++ L) hp (by rw [e1]; exact hb) k3 T' rfl X'
  exact ⟨t2, st t2 a1, b1⟩
end ROWS
/-! bodies -/
theorem th_ofW {l : Launch} {y : MethodName} {cc : ByteArray} {maxL : Nat} {ret : Option FieldType} {rm : Room} {D : tD} {B : Nat} {as : List Value} {w : aH → Prop} {Qc : Array Value → State → Outcome → State → Prop} {mc ms : Nat} (hy : plainName y.cls = true) (hc1 : th_c1 as) (hn : as.length ≤ maxL)
    (body : ∀ (p : Program) (e : Env) (s : State) (m : MethodId) (args : Array Value) (below : List Frame) (meth : Method) (c : Code), CallFix p m c cc maxL s args lw_all y.cls → meth.sig.returnType = ret → meth.locks = false → meth.name = y.name → th_K D s → th_St B s s.heap → ∀ (G : aH) (ls : Array Slot), th_H D B G s.heap → va_S (th_A B) s.heap s.heap [] → w G → th_L ls maxL (th_en 0 as) → W p l e rm s m args below meth c s.heap [] 0 0 (MQ below Qc args s mc ms (th_A B)) (F0 m 0 ls [])) :
    Met l y (ws_ y cc maxL ret) rm (th_P D B as w) Qc mc ms (th_A B) := by
  refine Met.ofW (cc := cc) (maxL := maxL) (ret := ret) hy rfl ?_
  intro p e s m args below meth c s₁ Bd hml hv
  obtain ⟨rfl, G, hR, hK, hSt, hw⟩ := hv
  have hts := atoms_spec (ws := ws_ y cc maxL ret) Bd.pre
  obtain ⟨ls, e1, hl⟩ := th_entry hc1 hn m
  rw [e1]
  exact body p e s m _ below meth c ⟨Bd.exec, Bd.bytes, hml, findClass_of_methodNamed Bd.named, fun w h => hts w (List.mem_cons_of_mem _ h)⟩ Bd.returns Bd.notSynchronized (name_of_methodNamed Bd.named Bd.method).1 hK hSt G ls hR va_S.rf hw hl
