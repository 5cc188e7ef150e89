/-! rows of the judgement: interface calls, calls of what is inherited, statics, casts, what is made, throws, ends -/
set_option maxRecDepth 100000
section GR4
variable {w : g_W} {l : Launch} {M : g_M} {d mc ms pc : Nat} {ls : g_L} {st : List Value} {G : g_H} {Q : g_Q}
theorem gr_callSU {b : Nat} {M2 : g_M} {idx d2 mc2 ms2 : Nat} {As stk : List Value} {Q2 : g_Q} (hd : decode M.2.1 pc = .ok (.invokespecial idx, 3)) (hM : g_Met w l M2 d2 mc2 ms2 (.ref b :: As) G Q2) (hok : g_ok M2 As.length) (hn0 : M2.2.2.2.2 = none) (hlink : Cond.methodLink M.1.cls idx M2.1 ∈ lw_all) (hsm : Cond.sameMethod M2.1.cls M2.1.cls M2.1.name M2.1.desc ∈ lw_all) (hsp : Cond.superclass M.1.cls M2.1.cls ∈ lw_all) (hinst : Cond.instanceMethod M2.1 ∈ lw_all) (hno : M2.1.name ≠ "<init>") (hin : Cond.initialized M2.1.cls ∈ lw_all) (hwd : g_wd M2 ∈ lw_all) {t : g_T} {ci : Nat} {fs : List Value} {r : vw_C} (hG : G b = some (t, .inr (ci, fs))) (hc : g_cl[ci]? = some r) (hs : As.reverse ++ .ref b :: st = stk) (h8 : Nat.ble (st.map Value.category).sum 8 = true) (hdd : d2 < d) (h1 : mc2 ≤ mc) (h2 : ms2 ≤ ms)
    (kn : ∀ (v : Option Value) (G' : g_H), Q2 (.inl v) G' → g_RF w l M d (mc - mc2) (ms - ms2) (pc + 3) ls (v.toList ++ st) G' Q) (kx : ∀ (E : String) (q : Nat) (G' : g_H), Q2 (.inr (E, q)) G' → g_RX w l M d (mc - mc2) (ms - ms2) pc ls G' Q E q) : g_RF w l M d mc ms pc ls stk G Q := by
  intro p e R s m args below meth c H locs cells slots mcT msT lsA F B h hl T hT X
  subst hs
  have hmon := lv_room (m := m) (pc := pc) (ls := lsA) (rest := As.reverse ++ .ref b :: st) (Nat.le_of_ble_eq_true h8)
  have hbk := g_back (p := p) (e := e) (below := below) (len := 3) F hM hok hin hwd hdd
  have hcode : (g_wd M2).before args s = true := F.ts _ hwd
  have hlen := g_ok_len hok
  have hpre : ∀ vm₁, s.WarmedH vm₁ → PreOf R mc2 ms2 (g_Pc w (.ref b :: As) G) ⟨T.setVm vm₁, locs, cells, slots⟩ (.ref b :: As).toArray := fun vm₁ hW => g_pre (d2 := d2) F B h hT hW h1 h2
  obtain ⟨cell, r', q1, q2, q3, q4, -⟩ := (h.1 b t _ hG).1
  cases Option.some.inj (q4.symm.trans hc)
  obtain ⟨-, kB, hkB, -⟩ := (F.K.1.1 ci _ hc).2
  refine g_after (len := 3) (a := (.ref b :: As).toArray) hT F B h hl h1 h2 ?_ kn kx
  obtain ⟨y, bytes, maxL, ret, hh⟩ := M2
  cases hn0
  exact vx_callSU X F.1 (bytes := bytes) (maxL := maxL) (ret := ret) F.own (F.ts _ hlink) (F.ts _ hsm) (F.ts _ hsp) (F.ts _ hinst) hcode hno hbk (by rw [hT]; exact q1) q2.known.2 (by rw [q3]; exact hkB) (g := F0 m pc lsA (As.reverse ++ .ref b :: st)) rfl (hl.1.trans F.2.2.1.symm) (argsL := As) (rest := st) hlen rfl hmon (by rw [F.2.1]; exact hd) hpre
theorem gr_callU {b : Nat} {M2 : g_M} {idx d2 mc2 ms2 : Nat} {As stk : List Value} {Q2 : g_Q} (hd : decode M.2.1 pc = .ok (.invokevirtual idx, 3)) (hM : g_Met w l M2 d2 mc2 ms2 (.ref b :: As) G Q2) (hok : g_ok M2 As.length) (hn0 : M2.2.2.2.2 = none) {x : MethodName} {owner : String} (hlink : Cond.methodLink M.1.cls idx x ∈ lw_all) (hsm : Cond.sameMethod x.cls owner x.name x.desc ∈ lw_all) (hdc : Cond.declares ⟨owner, x.name, x.desc⟩ ∈ lw_tbl) (how : owner ≠ "java/lang/invoke/MethodHandle" ∧ owner ≠ "java/lang/invoke/VarHandle") (hinst : Cond.instanceMethod M2.1 ∈ lw_all) (hxd : x.desc = M2.1.desc) (hin : Cond.initialized M2.1.cls ∈ lw_all) (hwd : g_wd M2 ∈ lw_all) {t : g_T} {ci : Nat} {fs : List Value} {r : vw_C} (hG : G b = some (t, .inr (ci, fs))) (hc : g_cl[ci]? = some r) (hsel : Cond.selects r.1 x M2.1 ∈ lw_all) (hs : As.reverse ++ .ref b :: st = stk) (h8 : Nat.ble (st.map Value.category).sum 8 = true) (hdd : d2 < d) (h1 : mc2 ≤ mc) (h2 : ms2 ≤ ms)
    (kn : ∀ (v : Option Value) (G' : g_H), Q2 (.inl v) G' → g_RF w l M d (mc - mc2) (ms - ms2) (pc + 3) ls (v.toList ++ st) G' Q) (kx : ∀ (E : String) (q : Nat) (G' : g_H), Q2 (.inr (E, q)) G' → g_RX w l M d (mc - mc2) (ms - ms2) pc ls G' Q E q) : g_RF w l M d mc ms pc ls stk G Q := by
  intro p e R s m args below meth c H locs cells slots mcT msT lsA F B h hl T hT X
  subst hs
  have hmon := lv_room (m := m) (pc := pc) (ls := lsA) (rest := As.reverse ++ .ref b :: st) (Nat.le_of_ble_eq_true h8)
  have hbk := g_back (p := p) (e := e) (below := below) (len := 3) F hM hok hin hwd hdd
  have hcode : (g_wd M2).before args s = true := F.ts _ hwd
  have hlen := g_ok_len hok
  rw [← hxd] at hlen
  have hpre : ∀ vm₁, s.WarmedH vm₁ → PreOf R mc2 ms2 (g_Pc w (.ref b :: As) G) ⟨T.setVm vm₁, locs, cells, slots⟩ (.ref b :: As).toArray := fun vm₁ hW => g_pre (d2 := d2) F B h hT hW h1 h2
  obtain ⟨cell, r', q1, q2, q3, q4, -⟩ := (h.1 b t _ hG).1
  cases Option.some.inj (q4.symm.trans hc)
  have hcls : s.vm.findClass r.1 = some cell.cls := by rw [q3]; exact (F.K.1.1 ci _ hc).2.1
  refine g_after (len := 3) (a := (.ref b :: As).toArray) hT F B h hl h1 h2 ?_ kn kx
  obtain ⟨y, bytes, maxL, ret, hh⟩ := M2
  cases hn0
  exact vx_callVU X F.1 (bytes := bytes) (maxL := maxL) (ret := ret) F.own (F.ts _ hlink) (F.ts _ hsm) (va_Decl.abs (F.K.2.1.2.2.2.1 _ hdc)) how (F.ts _ hsel) (F.ts _ hinst) hcode hbk (by rw [hT]; exact q1) q2.known.2 hcls (g := F0 m pc lsA (As.reverse ++ .ref b :: st)) rfl (hl.1.trans F.2.2.1.symm) (argsL := As) (rest := st) hlen rfl hmon (by rw [F.2.1]; exact hd) hpre
theorem gr_callF {b : Nat} {M2 : g_M} {cnt idx d2 mc2 ms2 : Nat} {As stk : List Value} {Q2 : g_Q} (hd : decode M.2.1 pc = .ok (.invokeinterface idx cnt, 5)) (hM : g_Met w l M2 d2 mc2 ms2 (.ref b :: As) G Q2) (hok : g_ok M2 As.length) (hn0 : M2.2.2.2.2 = none) {x : MethodName} (hlink : Cond.methodLink M.1.cls idx x ∈ lw_all) (hx : x.cls ≠ "java/lang/invoke/MethodHandle" ∧ x.cls ≠ "java/lang/invoke/VarHandle") (hd1 : Cond.declares x ∈ lw_tbl) (hd2 : Cond.interfaceMethod x.cls x.cls x.name x.desc ∈ lw_tbl) (hd3 : Cond.publicMethod M2.1 ∈ lw_tbl) (hinst : Cond.instanceMethod M2.1 ∈ lw_all) (hxd : (parseMethodDescriptor x.desc).map (fun d => d.parameters.length) = some As.length) (hin : Cond.initialized M2.1.cls ∈ lw_all) (hwd : g_wd M2 ∈ lw_all) {t : g_T} {ci : Nat} {fs : List Value} {r : vw_C} (hG : G b = some (t, .inr (ci, fs))) (hc : g_cl[ci]? = some r) (hd4 : Cond.unhidden r.1 x.name x.desc ∈ lw_tbl) (hd5 : Cond.castable r.1 x.cls ∈ lw_tbl) (hsel : Cond.selects r.1 x M2.1 ∈ lw_all) (hs : As.reverse ++ .ref b :: st = stk) (h8 : Nat.ble (st.map Value.category).sum 8 = true) (hdd : d2 < d) (h1 : mc2 ≤ mc) (h2 : ms2 ≤ ms)
    (kn : ∀ (v : Option Value) (G' : g_H), Q2 (.inl v) G' → g_RF w l M d (mc - mc2) (ms - ms2) (pc + 5) ls (v.toList ++ st) G' Q) (kx : ∀ (E : String) (q : Nat) (G' : g_H), Q2 (.inr (E, q)) G' → g_RX w l M d (mc - mc2) (ms - ms2) pc ls G' Q E q) : g_RF w l M d mc ms pc ls stk G Q := by
  intro p e R s m args below meth c H locs cells slots mcT msT lsA F B h hl T hT X
  subst hs
  have hmon := lv_room (m := m) (pc := pc) (ls := lsA) (rest := As.reverse ++ .ref b :: st) (Nat.le_of_ble_eq_true h8)
  have hbk := g_back (p := p) (e := e) (below := below) (len := 5) F hM hok hin hwd hdd
  have hcode : (g_wd M2).before args s = true := F.ts _ hwd
  have hlen : ∀ sig, parseMethodDescriptor x.desc = some sig → As.length = sig.parameters.length := fun sig hs => by rw [hs] at hxd; exact (Option.some.inj hxd).symm
  have hpre : ∀ vm₁, s.WarmedH vm₁ → PreOf R mc2 ms2 (g_Pc w (.ref b :: As) G) ⟨T.setVm vm₁, locs, cells, slots⟩ (.ref b :: As).toArray := fun vm₁ hW => g_pre (d2 := d2) F B h hT hW h1 h2
  obtain ⟨cell, r', q1, q2, q3, q4, -⟩ := (h.1 b t _ hG).1
  cases Option.some.inj (q4.symm.trans hc)
  obtain ⟨-, kB, hkB, -⟩ := (F.K.1.1 ci _ hc).2
  have hfw := F.K.2.1.2.2.2.2.2.1 r.1 x M2.1 hx hd1 hd2 hd3 hd4 hd5
  have hcls : s.vm.findClass r.1 = some cell.cls := by rw [q3]; exact (F.K.1.1 ci _ hc).2.1
  refine g_after (len := 5) (a := (.ref b :: As).toArray) hT F B h hl h1 h2 ?_ kn kx
  obtain ⟨y, bytes, maxL, ret, hh⟩ := M2
  cases hn0
  exact vx_callIF X F.1 (bytes := bytes) (maxL := maxL) (ret := ret) F.own (F.ts _ hlink) (va_any rfl hfw.1) (va_any rfl hfw.2.1) (F.ts _ hsel) (F.ts _ hinst) (va_any rfl hfw.2.2.1) (va_any rfl hfw.2.2.2.1) (va_any rfl hfw.2.2.2.2) hcode hx hbk (by rw [hT]; exact q1) q2.known.2 hcls (by rw [q3]; exact hkB) (g := F0 m pc lsA (As.reverse ++ .ref b :: st)) rfl (hl.1.trans F.2.2.1.symm) (argsL := As) (rest := st) hlen rfl hmon (by rw [F.2.1]; exact hd) hpre
/-- a static of the world's list -/
def g_sv (w : g_W) (x : Nat ⊕ Value) : Value := match x with
  | .inl j => .ref (g_c w j)
  | .inr v => v
theorem g_st_at {p : Program} {R : Room} {s : State} {m : MethodId} {args : Array Value} {meth : Method} {c : Code} (F : g_Fx l w M d p R s m args meth c) {k : Nat} {C n D : String} {x : Nat ⊕ Value} (hk : g_st[k]? = some (C, n, D, x)) : va_Z C n D (g_sv w x) (g_A w) s s.heap := by
  have h := F.S.1 k _ hk
  cases x <;> exact h
theorem gr_gets {C n D : String} {x : Nat ⊕ Value} {idx : Nat} {v : Value} (hd : decode M.2.1 pc = .ok (.getstatic idx, 3)) (k : Nat) (hk : g_st[k]? = some (C, n, D, x)) (hlink : Cond.fieldLink M.1.cls idx C n D ∈ lw_all) (hv : g_sv w x = v) (kk : g_RF w l M d mc ms (pc + 3) ls (v :: st) G Q) : g_RF w l M d mc ms pc ls st G Q := by
  intro p e R s m args below meth c H locs cells slots mcT msT lsA F B h hl
  subst hv
  exact va_gets F.1 F.2.1 (g_st_at F hk) h.2 F.own (F.ts _ hlink) (fun _ z => z) hd (kk p e R s m args below meth c H locs cells slots mcT msT lsA F B h hl)
theorem gr_getsN {C n D host : String} {x : Nat ⊕ Value} {idx : Nat} {v : Value} (hd : decode M.2.1 pc = .ok (.getstatic idx, 3)) (k : Nat) (hk : g_st[k]? = some (C, n, D, x)) (hlink : Cond.fieldLinkNest M.1.cls idx C n D host ∈ lw_tbl) (hv : g_sv w x = v) (kk : g_RF w l M d mc ms (pc + 3) ls (v :: st) G Q) : g_RF w l M d mc ms pc ls st G Q := by
  intro p e R s m args below meth c H locs cells slots mcT msT lsA F B h hl
  subst hv
  exact va_getsN F.1 F.2.1 (g_st_at F hk) h.2 F.own (va_Nw.use rfl (F.K.2.1.1 _ _ _ _ _ _ hlink)) (fun _ z => z) hd (kk p e R s m args below meth c H locs cells slots mcT msT lsA F B h hl)
/-- a static of Throwable of which only this is known: null or a reference -/
theorem gr_getsq {n D : String} {idx : Nat} (hd : decode M.2.1 pc = .ok (.getstatic idx, 3)) (hq : (n = "UNASSIGNED_STACK" ∧ D = Bundle.steD) ∨ (n = "SUPPRESSED_SENTINEL" ∧ D = Bundle.listD)) (hlink : Cond.fieldLink M.1.cls idx Bundle.tN n D ∈ lw_all) (kk : ∀ r : Option Nat, g_RF w l M d mc ms (pc + 3) ls (va_rf r :: st) G Q) : g_RF w l M d mc ms pc ls st G Q := by
  intro p e R s m args below meth c H locs cells slots mcT msT lsA F B h hl
  have hz : va_Zq Bundle.tN n D (g_A w) s s.heap := by
    rcases hq with ⟨rfl, rfl⟩ | ⟨rfl, rfl⟩
    · exact F.S.2.1.1
    · exact F.S.2.2.1
  rcases hz with hz | ⟨q, hz⟩
  · exact va_gets F.1 F.2.1 hz h.2 F.own (F.ts _ hlink) (fun _ z => z) hd (kk none p e R s m args below meth c H locs cells slots mcT msT lsA F B h hl)
  · exact va_gets F.1 F.2.1 hz h.2 F.own (F.ts _ hlink) (fun _ z => z) hd (kk (some q) p e R s m args below meth c H locs cells slots mcT msT lsA F B h hl)
theorem gr_ldcS {idx k : Nat} {tx : String} {j : Nat} (hd : decode M.2.1 pc = .ok (.ldc idx, 2)) (hk : g_lits[k]? = some (M.1.cls, idx, tx, j)) (kk : g_RF w l M d mc ms (pc + 2) ls (.ref (g_c w j) :: st) G Q) : g_RF w l M d mc ms pc ls st G Q := by
  intro p e R s m args below meth c H locs cells slots mcT msT lsA F B h hl
  exact va_ldcS F.1 F.2.1 F.own (F.Li.1 k _ hk) hd (kk p e R s m args below meth c H locs cells slots mcT msT lsA F B h hl)
theorem gr_ldcM {idx : Nat} (hd : decode M.2.1 pc = .ok (.ldc idx, 2)) (hlink : Cond.classLink M.1.cls idx "[Ljava/lang/Object;" ∈ lw_all) (kk : g_RF w l M d mc ms (pc + 2) ls (.ref (g_c w g_mir) :: st) G Q) : g_RF w l M d mc ms pc ls st G Q := by
  intro p e R s m args below meth c H locs cells slots mcT msT lsA F B h hl
  exact va_ldcM F.1 F.2.1 F.own (F.ts _ hlink) F.Li.2 hd (kk p e R s m args below meth c H locs cells slots mcT msT lsA F B h hl)
/-- a cast of an object of a known class: to itself, or as the tables say -/
theorem gr_cast {nm : String} {idx a ci : Nat} {t : g_T} {fs : List Value} {r : vw_C} (hd : decode M.2.1 pc = .ok (.checkcast idx, 3)) (hlink : Cond.classLink M.1.cls idx nm ∈ lw_all) (hG : G a = some (t, .inr (ci, fs))) (hc : g_cl[ci]? = some r) (hca : r.1 = nm ∨ Cond.castable r.1 nm ∈ lw_tbl) (kk : g_RF w l M d mc ms (pc + 3) ls (.ref a :: st) G Q) : g_RF w l M d mc ms pc ls (.ref a :: st) G Q := by
  intro p e R s m args below meth c H locs cells slots mcT msT lsA F B h hl
  obtain ⟨cell, r', q1, q2, q3, q4, -⟩ := (h.1 a t _ hG).1
  cases Option.some.inj (q4.symm.trans hc)
  have hca2 := (F.K.1.1 ci _ hc).2
  have hr : ∃ cell : Cell, H[a]? = some cell ∧ cell.vm.isStatics = false ∧ s.vm.findClass r.1 = some cell.cls := ⟨cell, q1, q2.known.2, by rw [q3]; exact hca2.1⟩
  rcases hca with e9 | e9
  · subst e9
    exact va_castS F.1 F.2.1 F.own (F.ts _ hlink) hca2 hr hd (kk p e R s m args below meth c H locs cells slots mcT msT lsA F B h hl)
  · exact va_castY F.1 F.2.1 F.own (F.ts _ hlink) (F.K.2.1.2.2.1 _ _ e9) hr hd (kk p e R s m args below meth c H locs cells slots mcT msT lsA F B h hl)
theorem gr_castN {idx : Nat} (hd : decode M.2.1 pc = .ok (.checkcast idx, 3)) (kk : g_RF w l M d mc ms (pc + 3) ls (.null :: st) G Q) : g_RF w l M d mc ms pc ls (.null :: st) G Q :=
  fun p e R s m args below meth c H locs cells slots mcT msT lsA F B h hl => lv_castN F.1 F.2.1 hd (kk p e R s m args below meth c H locs cells slots mcT msT lsA F B h hl)
/-- the class of an array of a type that is made -/
theorem g_nm {p : Program} {R : Room} {s : State} {m : MethodId} {args : Array Value} {meth : Method} {c : Code} (F : g_Fx l w M d p R s m args meth c) {tp : Nat} {ty : FieldType} (ht : g_ft[tp]? = some ty) : s.vm.findClass ("[" ++ ty.toString) = some (w.2.1 tp) := by
  have h := (F.K.1.2 tp _ (g_tys_at ht)).2
  cases ty with
  | object C => obtain ⟨kA, comp, -, -, -, h4⟩ := h; exact h4
  | _ => exact h
/-- a cast of an array to its own class -/
theorem gr_castA {nm : String} {idx a tp n : Nat} {t : g_T} {f : Nat → Value} {ty : FieldType} (hd : decode M.2.1 pc = .ok (.checkcast idx, 3)) (hlink : Cond.classLink M.1.cls idx nm ∈ lw_all) (hG : G a = some (t, .inl (tp, n, f))) (hty : g_ft[tp]? = some ty) (hnm : "[" ++ ty.toString = nm) (kk : g_RF w l M d mc ms (pc + 3) ls (.ref a :: st) G Q) : g_RF w l M d mc ms pc ls (.ref a :: st) G Q := by
  intro p e R s m args below meth c H locs cells slots mcT msT lsA F B h hl T hT X
  obtain ⟨cell, h1, h2, h3, h4, h5⟩ := (h.1 a t _ hG).1
  obtain ⟨vm', X', stp⟩ := X.checkcastYes F.1 F.own (F.ts _ hlink) (by rw [hT]; exact h1) h2.known.2 (by rw [← hnm]; exact g_nm F hty) (by rw [h3]; exact va_asg _ _) (g := F0 m pc lsA (.ref a :: st)) rfl rfl (by rw [F.2.1]; exact hd)
  obtain ⟨t', a1, b1⟩ := kk p e R s m args below meth c H locs cells slots mcT msT lsA F B h hl (T.setVm vm') hT X'
  exact ⟨t', stp t' a1, b1⟩
/-- a new object -/
theorem gr_newo {C : String} {T : u_T} {N idx : Nat} (t : g_T) (hd : decode M.2.1 pc = .ok (.new idx, 3)) (ci : Nat) (hin : ∀ x ∈ u_ws C T N, x ∈ lw_all) (tyf : Nat → FieldType) (htyf : ∀ k, k < N → parseFieldDescriptor (T k).2.2.1 = some (tyf k)) (hc : g_cl[ci]? = some (C, T, N)) (hlink : Cond.classLink M.1.cls idx C ∈ lw_all) (hins : Cond.instantiable C N ∈ lw_all) (hini : Cond.initialized C ∈ lw_all) {fs : List Value} (hfs : (List.range N).map (fun j => defaultValue (tyf j)) = fs) (h1 : 1 ≤ mc) (h2 : N ≤ ms)
    (kk : ∀ (q : Nat) (G1 : g_H), G q = none → G1 = g_up G q (t, .inr (ci, fs)) → g_RF w l M d (mc - 1) (ms - N) (pc + 3) ls (.ref q :: st) G1 Q) : g_RF w l M d mc ms pc ls st G Q := by
  intro p e R s m args below meth c H locs cells slots mcT msT lsA F B h hl
  have hKn := F.K.1.1 ci _ hc
  obtain ⟨b1, b2, b3, b4⟩ := B
  refine W.newcK F.1 F.2.1 F.own (F.ts _ hlink) (F.ts _ hins) (F.ts _ hini) rfl hd (by omega) (by omega) hKn.2.1 rfl fun H1 kC hkC e1 z1 o1 => ?_
  have hb := u_born tyf F.ts hin hKn hkC e1 htyf
  obtain ⟨cell, c1, c2, c3, c4⟩ := hb
  have hat : g_at w H.size (.inr (ci, fs)) H1 := by
    refine ⟨cell, _, c1, Or.inl c3, c2, hc, by rw [← hfs]; simp, fun k hk => ?_⟩
    rw [c4 k hk, ← hfs]
    have hk' : k < N := hk
    simp [vp_V, hk']
  exact kk H.size _ (h.1.fresh (Nat.le_refl _)) rfl p e R s m args below meth c H1 locs (cells + 1) (slots + N) mcT msT lsA F ⟨by omega, b2, by omega, b4⟩
    ⟨h.1.up hat (fun _ => Nat.le_trans F.bs h.2.1) (fun q hq _ => o1 q hq), ⟨Nat.le_trans h.2.1 (by omega), fun x q1 q2 => (o1 x (Nat.lt_of_lt_of_le q1 h.2.1)).trans (h.2.2.1 x q1 q2), h.2.2.2⟩⟩ hl
theorem g_at_new {H1 : Heap} {q tp N : Nat} {v : Value} {cA : ClassId} (hc : cA = w.2.1 tp) (e1 : H1[q]? = some ({ cls := cA, slots := Array.replicate N v, vm := .none } : Cell)) : g_at w q (.inl (tp, N, fun _ => v)) H1 :=
  ⟨_, e1, Or.inl rfl, hc, by simp, fun j hj => by simp [hj]⟩
theorem gr_newa {atype : ArrayType} {z : Int} (t : g_T) (N tp : Nat) {ty : FieldType} (hd : decode M.2.1 pc = .ok (.newarray atype, 2)) (hty : newarray.typeOf atype = ty) (ht : g_ft[tp]? = some ty) (harr : Cond.arrayClass ty ∈ lw_all) (hn : z = (N : Int)) (hN : N * componentBytes ty ≤ 536870912) (hN2 : N < 2147483648) {v : Value} (hv : defaultValue ty = v) (h1 : 1 ≤ mc) (h2 : N ≤ ms)
    (kk : ∀ (q : Nat) (G1 : g_H), G q = none → G1 = g_up G q (t, .inl (tp, N, fun _ => v)) → g_RF w l M d (mc - 1) (ms - N) (pc + 2) ls (.ref q :: st) G1 Q) : g_RF w l M d mc ms pc ls (.int (iI z) :: st) G Q := by
  intro p e R s m args below meth c H locs cells slots mcT msT lsA F B h hl
  subst hty
  obtain ⟨b1, b2, b3, b4⟩ := B
  subst hn
  rw [iI_nI]
  have hcl : (nI N).toNatClampNeg = N := nI_clamp (by omega)
  refine W.newa F.1 F.2.1 (F.ts _ harr) rfl hd rfl (nI_pos (by omega)) (by rw [hcl]; exact hN) (by omega) (by rw [hcl]; omega) fun cA kA comp f1 f2 f3 => ?_
  have hcA : cA = w.2.1 tp := Option.some.inj (f1.symm.trans (g_nm F ht))
  rw [hcl]
  generalize hH1 : H.push ({ cls := cA, slots := Array.replicate N (defaultValue (newarray.typeOf atype)), vm := .none } : Cell) = H1
  have z1 : H1.size = H.size + 1 := by rw [← hH1, Array.size_push]
  have e1 : H1[H.size]? = some ({ cls := cA, slots := Array.replicate N (defaultValue (newarray.typeOf atype)), vm := .none } : Cell) := by rw [← hH1, Array.getElem?_push_size]
  have o1 : ∀ q : Nat, q < H.size → H1[q]? = H[q]? := fun q hq => by rw [← hH1, Array.getElem?_push, if_neg (Nat.ne_of_lt hq)]
  exact kk H.size _ (h.1.fresh (Nat.le_refl _)) rfl p e R s m args below meth c H1 locs (cells + 1) (slots + N) mcT msT lsA F ⟨by omega, b2, by omega, b4⟩
    ⟨h.1.up (g_at_new hcA (by rw [← hv]; exact e1)) (fun _ => Nat.le_trans F.bs h.2.1) (fun q hq _ => o1 q hq), ⟨Nat.le_trans h.2.1 (by omega), fun x q1 q2 => (o1 x (Nat.lt_of_lt_of_le q1 h.2.1)).trans (h.2.2.1 x q1 q2), h.2.2.2⟩⟩ hl
theorem gr_anew {C : String} {idx : Nat} {z : Int} (t : g_T) (N tp : Nat) (hd : decode M.2.1 pc = .ok (.anewarray idx, 3)) (ht : g_ft[tp]? = some (.object C)) (hlink : Cond.classLink M.1.cls idx C ∈ lw_all) (hov : Cond.arrayOver (.object C) ∈ lw_tbl) (hn : z = (N : Int)) (hN : N * 4 ≤ 536870912) (h1 : 1 ≤ mc) (h2 : N ≤ ms)
    (kk : ∀ (q : Nat) (G1 : g_H), G q = none → G1 = g_up G q (t, .inl (tp, N, fun _ => .null)) → g_RF w l M d (mc - 1) (ms - N) (pc + 3) ls (.ref q :: st) G1 Q) : g_RF w l M d mc ms pc ls (.int (iI z) :: st) G Q := by
  intro p e R s m args below meth c H locs cells slots mcT msT lsA F B h hl
  obtain ⟨b1, b2, b3, b4⟩ := B
  subst hn
  rw [iI_nI]
  have hcl : (nI N).toNatClampNeg = N := nI_clamp (by omega)
  refine W.anew F.1 F.2.1 F.own (F.ts _ hlink) (va_AO.use (F.K.2.1.2.2.2.2.1 _ hov)) rfl hd rfl (nI_pos (by omega)) (by rw [hcl]; exact hN) (by omega) (by rw [hcl]; omega) fun cA kA comp f1 f2 f3 f4 => ?_
  have hcA : cA = w.2.1 tp := Option.some.inj (f1.symm.trans (g_nm F ht))
  rw [hcl]
  generalize hH1 : H.push ({ cls := cA, slots := Array.replicate N .null, vm := .none } : Cell) = H1
  have z1 : H1.size = H.size + 1 := by rw [← hH1, Array.size_push]
  have e1 : H1[H.size]? = some ({ cls := cA, slots := Array.replicate N .null, vm := .none } : Cell) := by rw [← hH1, Array.getElem?_push_size]
  have o1 : ∀ q : Nat, q < H.size → H1[q]? = H[q]? := fun q hq => by rw [← hH1, Array.getElem?_push, if_neg (Nat.ne_of_lt hq)]
  exact kk H.size _ (h.1.fresh (Nat.le_refl _)) rfl p e R s m args below meth c H1 locs (cells + 1) (slots + N) mcT msT lsA F ⟨by omega, b2, by omega, b4⟩
    ⟨h.1.up (g_at_new hcA e1) (fun _ => Nat.le_trans F.bs h.2.1) (fun q hq _ => o1 q hq), ⟨Nat.le_trans h.2.1 (by omega), fun x q1 q2 => (o1 x (Nat.lt_of_lt_of_le q1 h.2.1)).trans (h.2.2.1 x q1 q2), h.2.2.2⟩⟩ hl
/-- ends -/
theorem g_end {p : Program} {e : Env} {R : Room} {s : State} {m : MethodId} {args : Array Value} {below : List Frame} {meth : Method} {c : Code} {H : Heap} {locs : List Loc} {v : Option Value} {t : State} (h : g_Fh w s G H locs) (ht : t.heap = H) (hq : Q (.inl v) G) : g_Qc w Q args s (.returned v) t :=
  ⟨v, G, rfl, hq, by rw [ht]; exact h.1, h.2.F ht⟩
theorem gr_ret (hd : decode M.2.1 pc = .ok (.return_, 1)) (hr : M.2.2.2.1 = none) (hq : Q (.inl none) G) : g_RF w l M d mc ms pc ls [] G Q := by
  intro p e R s m args below meth c H locs cells slots mcT msT lsA F B h hl
  refine W.widen (k := mcT) (n := msT) (by have := B.1; omega) (by have := B.2.2.1; omega) (gx_ret ?_)
  exact W.vret F.1 F.2.1 (F.2.2.2.1.trans hr) (fun t ht _ => g_end (p := p) (e := e) (R := R) (m := m) (below := below) (meth := meth) (c := c) h ht hq) h.2.2.2 hd F.2.2.2.2.2.1
theorem gr_iret {v : Int32} {ty : FieldType} (hd : decode M.2.1 pc = .ok (.ireturn, 1)) (hr : M.2.2.2.1 = some ty) (hn : narrow ty (.int v) = .int v) (hq : Q (.inl (some (.int v))) G) : g_RF w l M d mc ms pc ls [.int v] G Q := by
  intro p e R s m args below meth c H locs cells slots mcT msT lsA F B h hl
  refine W.widen (k := mcT) (n := msT) (by have := B.1; omega) (by have := B.2.2.1; omega) (gx_ret ?_)
  exact W.zret F.1 F.2.1 (F.2.2.2.1.trans hr) hn (fun t ht _ => g_end (p := p) (e := e) (R := R) (m := m) (below := below) (meth := meth) (c := c) h ht hq) h.2.2.2 hd F.2.2.2.2.2.1
theorem gr_lret {v : Int64} (hd : decode M.2.1 pc = .ok (.lreturn, 1)) (hr : M.2.2.2.1 = some .long) (hq : Q (.inl (some (.long v))) G) : g_RF w l M d mc ms pc ls [.long v] G Q := by
  intro p e R s m args below meth c H locs cells slots mcT msT lsA F B h hl
  refine W.widen (k := mcT) (n := msT) (by have := B.1; omega) (by have := B.2.2.1; omega) (gx_ret ?_)
  exact W.lret F.1 F.2.1 (F.2.2.2.1.trans hr) (fun t ht _ => g_end (p := p) (e := e) (R := R) (m := m) (below := below) (meth := meth) (c := c) h ht hq) h.2.2.2 hd F.2.2.2.2.2.1
end GR4
