/-! rows of the judgement: fields, arrays, what is made -/
set_option maxRecDepth 100000
def g_fu (f : Nat → Value) (j : Nat) (v : Value) : Nat → Value := fun q => if q = j then v else f q
theorem g_fu_s {f : Nat → Value} {j : Nat} {v : Value} : g_fu f j v j = v := by simp [g_fu]
theorem g_fu_n {f : Nat → Value} {j k : Nat} {v : Value} (h : k ≠ j) : g_fu f j v k = f k := by simp [g_fu, h]
theorem g_tys_at {w : g_W} {t : Nat} {ty : FieldType} (ht : g_ft[t]? = some ty) : (g_tys w)[t]? = some (w.2.1 t, ty) := by
  simp [g_tys, List.getElem?_zipIdx, ht]
theorem g_isArr {w : g_W} {s : State} {a t : Nat} {cell : Cell} {ty : FieldType} (hK : g_K w s) (ht : g_fa[t]? = some ty) (hc : cell.cls = w.2.1 t) (hv : g_vm w a cell) : s.isArrayOf cell ty := by
  obtain ⟨k, comp, hk, hkind⟩ := hK.2.2 t ty ht
  refine ⟨fun q hq => ?_, k, ?_, comp, hkind⟩
  · have := hv.known.2
    rw [hq] at this
    cases this
  · rw [hc]; exact hk
theorem g_eq_s {G G1 : g_H} {a : Nat} {x : g_T × g_E} (h : G1 = g_up G a x) : G1 a = some x := by rw [h, g_up_s]
theorem g_eq_n {G G1 : g_H} {a b : Nat} {x : g_T × g_E} {y : Option (g_T × g_E)} (h : G1 = g_up G a x) (hb : G b = y) (hn : b ≠ a) : G1 b = y := by rw [h, g_up_n hn, hb]
theorem g_ne {G : g_H} {a b : Nat} {x y : g_T × g_E} (ha : G a = some x) (hb : G b = some y) (h : y ≠ x) : b ≠ a := by
  rintro rfl
  rw [ha] at hb
  exact h (Option.some.inj hb).symm
theorem g_nf {G : g_H} {a b : Nat} {y : g_T × g_E} (ha : G a = none) (hb : G b = some y) : b ≠ a := by
  rintro rfl
  rw [ha] at hb
  cases hb
section GR2
variable {w : g_W} {l : Launch} {M : g_M} {d mc ms pc : Nat} {ls : g_L} {st : List Value} {G : g_H} {Q : g_Q}
/-- what every row takes apart -/
theorem g_Fx.own {p : Program} {R : Room} {s : State} {m : MethodId} {args : Array Value} {meth : Method} {c : Code} (F : g_Fx l w M d p R s m args meth c) : s.vm.findClass M.1.cls = some m.cls := F.2.2.2.2.2.2.2.1
theorem g_Fx.ts {p : Program} {R : Room} {s : State} {m : MethodId} {args : Array Value} {meth : Method} {c : Code} (F : g_Fx l w M d p R s m args meth c) : ∀ x ∈ lw_all, x.before args s = true := F.2.2.2.2.2.2.2.2.1
theorem g_Fx.rm {p : Program} {R : Room} {s : State} {m : MethodId} {args : Array Value} {meth : Method} {c : Code} (F : g_Fx l w M d p R s m args meth c) : d ≤ R.frames ∧ 40 * d + 60 ≤ R.locals := F.2.2.2.2.2.2.2.2.2.1
theorem g_Fx.K {p : Program} {R : Room} {s : State} {m : MethodId} {args : Array Value} {meth : Method} {c : Code} (F : g_Fx l w M d p R s m args meth c) : g_K w s := F.2.2.2.2.2.2.2.2.2.2.1
theorem g_Fx.Li {p : Program} {R : Room} {s : State} {m : MethodId} {args : Array Value} {meth : Method} {c : Code} (F : g_Fx l w M d p R s m args meth c) : g_Li w s := F.2.2.2.2.2.2.2.2.2.2.2.1
theorem g_Fx.S {p : Program} {R : Room} {s : State} {m : MethodId} {args : Array Value} {meth : Method} {c : Code} (F : g_Fx l w M d p R s m args meth c) : g_S w s s.heap := F.2.2.2.2.2.2.2.2.2.2.2.2.1
theorem g_Fx.bs {p : Program} {R : Room} {s : State} {m : MethodId} {args : Array Value} {meth : Method} {c : Code} (F : g_Fx l w M d p R s m args meth c) : g_b w ≤ s.heap.size := F.2.2.2.2.2.2.2.2.2.2.2.2.2.1
theorem g_Fx.tr {p : Program} {R : Room} {s : State} {m : MethodId} {args : Array Value} {meth : Method} {c : Code} (F : g_Fx l w M d p R s m args meth c) : l.stackTraces = false := F.2.2.2.2.2.2.2.2.2.2.2.2.2.2
/-- a field's slot and value -/
theorem g_field {p : Program} {R : Room} {s : State} {m : MethodId} {args : Array Value} {meth : Method} {c : Code} {H : Heap} (F : g_Fx l w M d p R s m args meth c) {C : String} {T : u_T} {N ci a : Nat} {t : g_T} {fs : List Value} (hR : g_R w G H) (hin : ∀ x ∈ u_ws C T N, x ∈ lw_all) (hc : g_cl[ci]? = some (C, T, N)) {k : Nat} (hk : Nat.blt k N = true) (hG : G a = some (t, .inr (ci, fs))) :
    ∃ (cell : Cell) (cf : ClassId) (kf : Class) (fi : Nat) (f : Field) (kC : Class), H[a]? = some cell ∧ g_vm w a cell ∧ cell.cls = w.1.1 ci ∧ fs.length = N ∧ (∀ k : Nat, k < N → cell.slots[w.1.2 ci k]? = some (vp_V fs k)) ∧ s.fieldFound? (T k).1 (T k).2.1 (T k).2.2.1 = some (cf, kf, fi, f) ∧ f.slot = w.1.2 ci k ∧ f.isStatic = false ∧ s.vm.findClass C = some (w.1.1 ci) ∧ s.vm.classes[w.1.1 ci]? = some kC ∧ kC.kind = .ordinary ∧ (t.1 ≠ 0 → g_b w ≤ a) := by
  have hk' : k < N := Nat.le_of_ble_eq_true hk
  obtain ⟨⟨cell, r, h1, h2, h3, h4, h5, h6⟩, h0⟩ := hR a t _ hG
  have hr : r = (C, T, N) := Option.some.inj (h4.symm.trans hc)
  subst hr
  obtain ⟨hS, hfc, kC, hkC, hkind⟩ := F.K.1.1 ci _ hc
  obtain ⟨cf, kf, fi, f, hi, hsl⟩ := hS k hk'
  exact ⟨cell, cf, kf, fi, f, kC, h1, h2, h3, h5, h6, hi, hsl, (u_facts hfc hkC (u_lays F.ts hin hk') hi).1, hfc, hkC, hkind, h0⟩
theorem gr_getf {own ref C : String} {T : u_T} {N idx a : Nat} {t : g_T} {fs : List Value} {v : Value} (hd : decode M.2.1 pc = .ok (.getfield idx, 3)) (ho : M.1.cls = own) (ci : Nat) (hin : ∀ x ∈ u_ws C T N, x ∈ lw_all) (hc : g_cl[ci]? = some (C, T, N)) (k : Nat) (hk : Nat.blt k N = true) (hlink : Cond.fieldLink own idx ref (T k).2.1 (T k).2.2.1 ∈ lw_all) (hsame : (T k).1 = ref ∨ Cond.sameField ref (T k).1 (T k).2.1 (T k).2.2.1 ∈ lw_all)
    (hG : G a = some (t, .inr (ci, fs))) (hv : fs[k]? = some v) (kk : g_RF w l M d mc ms (pc + 3) ls (v :: st) G Q) : g_RF w l M d mc ms pc ls (.ref a :: st) G Q := by
  intro p e R s m args below meth c H locs cells slots mcT msT lsA F B h hl
  obtain ⟨cell, cf, kf, fi, f, kC, h1, h2, h3, h5, h6, hi, hsl, hst, hfc, hkC, hkind, h0⟩ := g_field F h.1 hin hc hk hG
  have hk' : k < N := Nat.le_of_ble_eq_true hk
  have hi' : s.fieldFound? ref (T k).2.1 (T k).2.2.1 = some (cf, kf, fi, f) := by
    rcases hsame with e | e
    · rw [← e]; exact hi
    · exact u_same (F.ts _ e) _ hi
  refine W.getf F.1 F.2.1 (by rw [← ho]; exact F.own) (F.ts _ hlink) hi' hst h1 h2.known.1 (v := v) ?_ rfl rfl hd (kk p e R s m args below meth c H locs cells slots mcT msT lsA F B h hl)
  rw [hsl, h6 k hk']
  simp [vp_V, hv]
theorem gr_getfN {own ref host C : String} {T : u_T} {N idx a : Nat} {t : g_T} {fs : List Value} {v : Value} (hd : decode M.2.1 pc = .ok (.getfield idx, 3)) (ho : M.1.cls = own) (ci : Nat) (hin : ∀ x ∈ u_ws C T N, x ∈ lw_all) (hc : g_cl[ci]? = some (C, T, N)) (k : Nat) (hk : Nat.blt k N = true) (hlink : Cond.fieldLinkNest own idx ref (T k).2.1 (T k).2.2.1 host ∈ lw_tbl) (hsame : (T k).1 = ref)
    (hG : G a = some (t, .inr (ci, fs))) (hv : fs[k]? = some v) (kk : g_RF w l M d mc ms (pc + 3) ls (v :: st) G Q) : g_RF w l M d mc ms pc ls (.ref a :: st) G Q := by
  intro p e R s m args below meth c H locs cells slots mcT msT lsA F B h hl
  obtain ⟨cell, cf, kf, fi, f, kC, h1, h2, h3, h5, h6, hi, hsl, hst, hfc, hkC, hkind, h0⟩ := g_field F h.1 hin hc hk hG
  have hk' : k < N := Nat.le_of_ble_eq_true hk
  refine va_Wgetf F.1 F.2.1 (by rw [← ho]; exact F.own) (va_Nw.use rfl (F.K.2.1.1 _ _ _ _ _ _ hlink)) (by rw [← hsame]; exact hi) hst h1 h2.known.1 (v := v) ?_ rfl rfl hd (kk p e R s m args below meth c H locs cells slots mcT msT lsA F B h hl)
  rw [hsl, h6 k hk']
  simp [vp_V, hv]
/-- an object's cell behind a store -/
theorem g_at_put {H1 : Heap} {a ci k N : Nat} {fs : List Value} {v : Value} {cell : Cell} {r : vw_C} (h2 : g_vm w a cell) (h3 : cell.cls = w.1.1 ci) (h4 : g_cl[ci]? = some r) (hN : r.2.2 = N) (h5 : fs.length = N) (h6 : ∀ k : Nat, k < N → cell.slots[w.1.2 ci k]? = some (vp_V fs k)) (hap : ∀ x y, x < N → y < N → x ≠ y → w.1.2 ci x ≠ w.1.2 ci y) (hk : k < N) (e1 : H1[a]? = some (cell.setSlot (w.1.2 ci k) v)) : g_at w a (.inr (ci, fs.set k v)) H1 := by
  subst hN
  refine ⟨_, r, e1, h2, h3, h4, by simp [h5], fun j hj => ?_⟩
  have h7 := t_set h6 hap hk v j hj
  refine h7.trans ?_
  rw [vp_updV_set (by omega)]
theorem gr_putf {own ref C : String} {T : u_T} {N idx a : Nat} {t : g_T} {fs : List Value} {v : Value} {ty : FieldType} (hd : decode M.2.1 pc = .ok (.putfield idx, 3)) (ho : M.1.cls = own) (ci : Nat) (hin : ∀ x ∈ u_ws C T N, x ∈ lw_all) (tyf : Nat → FieldType) (htyf : ∀ k, k < N → parseFieldDescriptor (T k).2.2.1 = some (tyf k)) (hnm : ∀ a, a < N → ∀ b, b < N → a ≠ b → (T a).2.1 ≠ (T b).2.1) (hc : g_cl[ci]? = some (C, T, N)) (k : Nat) (hk : Nat.blt k N = true) (hlink : Cond.fieldLink own idx ref (T k).2.1 (T k).2.2.1 ∈ lw_all) (hsame : (T k).1 = ref ∨ Cond.sameField ref (T k).1 (T k).2.1 (T k).2.2.1 ∈ lw_all) (hfin : (T k).2.2.2 = false)
    (hty : tyf k = ty) (hn : narrow ty v = v) (hfit : fits ty v = true) (hG : G a = some (t, .inr (ci, fs))) (ht : Nat.blt 0 t.1 = true) (kk : ∀ G1 : g_H, G1 = g_up G a (t, .inr (ci, fs.set k v)) → g_RF w l M d mc ms (pc + 3) ls st G1 Q) : g_RF w l M d mc ms pc ls (v :: .ref a :: st) G Q := by
  intro p e R s m args below meth c H locs cells slots mcT msT lsA F B h hl
  obtain ⟨cell, cf, kf, fi, f, kC, h1, h2, h3, h5, h6, hi, hsl, hst, hfc, hkC, hkind, h0⟩ := g_field F h.1 hin hc hk hG
  have hk' : k < N := Nat.le_of_ble_eq_true hk
  have ht' : 0 < t.1 := Nat.le_of_ble_eq_true ht
  have hba : g_b w ≤ a := h0 (by omega)
  have hown : s.vm.findClass own = some m.cls := by rw [← ho]; exact F.own
  have hap := va_apart (own := own) F.ts hin tyf htyf hnm F.K.1 hc
  have hi' : s.fieldFound? ref (T k).2.1 (T k).2.2.1 = some (cf, kf, fi, f) := by
    rcases hsame with e | e
    · rw [← e]; exact hi
    · exact u_same (F.ts _ e) _ hi
  have hlay := F.ts _ (hin _ (u_in_lay hk'))
  unfold u_lay at hlay
  rw [if_neg (by rw [hfin]; decide)] at hlay
  have h8 := u_store hfc hkC hkind hlay hi (by rw [htyf k hk', hty]) hn hfit
  refine W.putK F.1 F.2.1 (f := f) ⟨hown, F.ts _ hlink, ⟨_, _, _, hi'⟩, hst⟩ (by rw [h3]; exact h8) h1 (h2.none hba) (by rw [hsl]; exact k2_hasslot (h6 k hk')) rfl rfl hd fun H' e1 e2 e3 => ?_
  rw [hsl] at e1 ⊢
  exact kk _ rfl p e R s m args below meth c H' _ cells slots mcT msT lsA F B ⟨h.1.up (g_at_put h2 h3 hc rfl h5 h6 hap hk' e1) (fun _ => hba) (fun q _ hq => e3 q hq), h.2.put e2 e3 hba⟩ hl
theorem gr_putfN {own ref host C : String} {T : u_T} {N idx a : Nat} {t : g_T} {fs : List Value} {v : Value} {ty : FieldType} (hd : decode M.2.1 pc = .ok (.putfield idx, 3)) (ho : M.1.cls = own) (ci : Nat) (hin : ∀ x ∈ u_ws C T N, x ∈ lw_all) (tyf : Nat → FieldType) (htyf : ∀ k, k < N → parseFieldDescriptor (T k).2.2.1 = some (tyf k)) (hnm : ∀ a, a < N → ∀ b, b < N → a ≠ b → (T a).2.1 ≠ (T b).2.1) (hc : g_cl[ci]? = some (C, T, N)) (k : Nat) (hk : Nat.blt k N = true) (hlink : Cond.fieldLinkNest own idx ref (T k).2.1 (T k).2.2.1 host ∈ lw_tbl) (hsame : (T k).1 = ref) (hfin : (T k).2.2.2 = false)
    (hty : tyf k = ty) (hn : narrow ty v = v) (hfit : fits ty v = true) (hG : G a = some (t, .inr (ci, fs))) (ht : Nat.blt 0 t.1 = true) (kk : ∀ G1 : g_H, G1 = g_up G a (t, .inr (ci, fs.set k v)) → g_RF w l M d mc ms (pc + 3) ls st G1 Q) : g_RF w l M d mc ms pc ls (v :: .ref a :: st) G Q := by
  intro p e R s m args below meth c H locs cells slots mcT msT lsA F B h hl
  obtain ⟨cell, cf, kf, fi, f, kC, h1, h2, h3, h5, h6, hi, hsl, hst, hfc, hkC, hkind, h0⟩ := g_field F h.1 hin hc hk hG
  have hk' : k < N := Nat.le_of_ble_eq_true hk
  have ht' : 0 < t.1 := Nat.le_of_ble_eq_true ht
  have hba : g_b w ≤ a := h0 (by omega)
  have hown : s.vm.findClass own = some m.cls := by rw [← ho]; exact F.own
  have hap := va_apart (own := own) F.ts hin tyf htyf hnm F.K.1 hc
  have hlay := F.ts _ (hin _ (u_in_lay hk'))
  unfold u_lay at hlay
  rw [if_neg (by rw [hfin]; decide)] at hlay
  have h8 := u_store hfc hkC hkind hlay hi (by rw [htyf k hk', hty]) hn hfit
  refine va_WputK F.1 F.2.1 (f := f) hown (va_Nw.use rfl (F.K.2.1.1 _ _ _ _ _ _ hlink)) (by rw [← hsame]; exact hi) hst (by rw [h3]; exact h8) h1 (h2.none hba) (by rw [hsl]; exact k2_hasslot (h6 k hk')) rfl rfl hd fun H' e1 e2 e3 => ?_
  rw [hsl] at e1 ⊢
  exact kk _ rfl p e R s m args below meth c H' _ cells slots mcT msT lsA F B ⟨h.1.up (g_at_put h2 h3 hc rfl h5 h6 hap hk' e1) (fun _ => hba) (fun q _ hq => e3 q hq), h.2.put e2 e3 hba⟩ hl
/-- a final field, in the constructor of its class -/
theorem gr_putF {own ref C : String} {T : u_T} {N idx a : Nat} {t : g_T} {fs : List Value} {v : Value} {ty : FieldType} (hd : decode M.2.1 pc = .ok (.putfield idx, 3)) (ho : M.1.cls = own) (hi0 : M.1.name = "<init>") (ci : Nat) (hin : ∀ x ∈ u_ws C T N, x ∈ lw_all) (tyf : Nat → FieldType) (htyf : ∀ k, k < N → parseFieldDescriptor (T k).2.2.1 = some (tyf k)) (hnm : ∀ a, a < N → ∀ b, b < N → a ≠ b → (T a).2.1 ≠ (T b).2.1) (hc : g_cl[ci]? = some (C, T, N)) (k : Nat) (hk : Nat.blt k N = true) (hlink : Cond.fieldLink own idx ref (T k).2.1 (T k).2.2.1 ∈ lw_all) (hsame : (T k).1 = ref) (hdecl : (T k).1 = own) (hfin : (T k).2.2.2 = true)
    (hty : tyf k = ty) (hn : narrow ty v = v) (hfit : fits ty v = true) (hG : G a = some (t, .inr (ci, fs))) (ht : Nat.blt 0 t.1 = true) (kk : ∀ G1 : g_H, G1 = g_up G a (t, .inr (ci, fs.set k v)) → g_RF w l M d mc ms (pc + 3) ls st G1 Q) : g_RF w l M d mc ms pc ls (v :: .ref a :: st) G Q := by
  intro p e R s m args below meth c H locs cells slots mcT msT lsA F B h hl
  obtain ⟨cell, cf, kf, fi, f, kC, h1, h2, h3, h5, h6, hi, hsl, hst, hfc, hkC, hkind, h0⟩ := g_field F h.1 hin hc hk hG
  have hk' : k < N := Nat.le_of_ble_eq_true hk
  have ht' : 0 < t.1 := Nat.le_of_ble_eq_true ht
  have hba : g_b w ≤ a := h0 (by omega)
  have hown : s.vm.findClass own = some m.cls := by rw [← ho]; exact F.own
  have hap := va_apart (own := own) F.ts hin tyf htyf hnm F.K.1 hc
  have hlay := F.ts _ (hin _ (u_in_lay hk'))
  unfold u_lay at hlay
  rw [if_pos hfin] at hlay
  have hcf : m.cls = cf := by
    obtain ⟨_, _, c', _, _, _, -, -, hf', -, -, -, hown2, -⟩ := Cond.laysFinal_spec hlay
    have e1 : c' = cf := by have := hi.symm.trans hf'; simp at this; exact this.1.symm
    rw [hdecl] at hown2
    rw [← e1]; exact Option.some.inj (hown.symm.trans hown2)
  have h8 := u_fits hfc hkC hkind (Or.inr hlay) hi (by rw [htyf k hk', hty]) hn hfit
  refine W.putFinK F.1 F.2.1 hown (F.ts _ hlink) (by rw [← hsame]; exact hi) hst hcf (F.2.2.2.2.2.2.1.trans hi0) (by rw [h3]; exact h8) h1 (h2.none hba) (by rw [hsl]; exact k2_hasslot (h6 k hk')) rfl rfl hd fun H' e1 e2 e3 => ?_
  rw [hsl] at e1 ⊢
  exact kk _ rfl p e R s m args below meth c H' _ cells slots mcT msT lsA F B ⟨h.1.up (g_at_put h2 h3 hc rfl h5 h6 hap hk' e1) (fun _ => hba) (fun q _ hq => e3 q hq), h.2.put e2 e3 hba⟩ hl
/-- an array's cell -/
theorem g_arr {p : Program} {R : Room} {s : State} {m : MethodId} {args : Array Value} {meth : Method} {c : Code} {H : Heap} (F : g_Fx l w M d p R s m args meth c) {a tp n : Nat} {t : g_T} {f : Nat → Value} {ty : FieldType} (hR : g_R w G H) (hty : g_fa[tp]? = some ty) (hG : G a = some (t, .inl (tp, n, f))) :
    ∃ cell : Cell, H[a]? = some cell ∧ g_vm w a cell ∧ cell.cls = w.2.1 tp ∧ cell.slots.size = n ∧ (∀ j : Nat, j < n → cell.slots[j]? = some (f j)) ∧ s.isArrayOf cell ty ∧ cell.vm ≠ .unknown ∧ (t.1 ≠ 0 → g_b w ≤ a) := by
  obtain ⟨⟨cell, h1, h2, h3, h4, h5⟩, h0⟩ := hR a t _ hG
  exact ⟨cell, h1, h2, h3, h4, h5, g_isArr F.K hty h3 h2, h2.known.1, h0⟩
theorem gr_alen {a tp n : Nat} {t : g_T} {f : Nat → Value} {ty : FieldType} (hd : decode M.2.1 pc = .ok (.arraylength, 1)) (hG : G a = some (t, .inl (tp, n, f))) (hty : g_fa[tp]? = some ty) (kk : g_RF w l M d mc ms (pc + 1) ls (.int (iI n) :: st) G Q) : g_RF w l M d mc ms pc ls (.ref a :: st) G Q := by
  intro p e R s m args below meth c H locs cells slots mcT msT lsA F B h hl
  obtain ⟨cell, h1, h2, h3, h4, h5, h6, h7, h0⟩ := g_arr F h.1 hty hG
  exact W.alen (n := iI n) F.1 F.2.1 h1 h6 (by rw [h4]; exact iI_nat n) rfl rfl hd (kk p e R s m args below meth c H locs cells slots mcT msT lsA F B h hl)
theorem gr_iald {a tp n : Nat} {t : g_T} {f : Nat → Value} {z : Int} {v : Value} (hd : decode M.2.1 pc = .ok (.iaload, 1)) (hG : G a = some (t, .inl (tp, n, f))) (hty : g_fa[tp]? = some .int) (h0z : 0 ≤ z) (hzn : z < n) (hn : n < 2147483648) (hv : f z.toNat = v) (kk : g_RF w l M d mc ms (pc + 1) ls (v :: st) G Q) : g_RF w l M d mc ms pc ls (.int (iI z) :: .ref a :: st) G Q := by
  intro p e R s m args below meth c H locs cells slots mcT msT lsA F B h hl
  obtain ⟨cell, h1, h2, h3, h4, h5, h6, h7, h0⟩ := g_arr F h.1 hty hG
  obtain ⟨j, hjz, hcl, hin, hj⟩ := iI_ix h0z hzn hn
  exact W.iald (v := v) F.1 F.2.1 h1 h6 h7 (by rw [h4]; exact hin) (by rw [hcl, h5 j hj, ← hv, hjz]; rfl) rfl rfl hd (kk p e R s m args below meth c H locs cells slots mcT msT lsA F B h hl)
theorem gr_lald {a tp n : Nat} {t : g_T} {f : Nat → Value} {z : Int} {v : Value} (hd : decode M.2.1 pc = .ok (.laload, 1)) (hG : G a = some (t, .inl (tp, n, f))) (hty : g_fa[tp]? = some .long) (h0z : 0 ≤ z) (hzn : z < n) (hn : n < 2147483648) (hv : f z.toNat = v) (kk : g_RF w l M d mc ms (pc + 1) ls (v :: st) G Q) : g_RF w l M d mc ms pc ls (.int (iI z) :: .ref a :: st) G Q := by
  intro p e R s m args below meth c H locs cells slots mcT msT lsA F B h hl
  obtain ⟨cell, h1, h2, h3, h4, h5, h6, h7, h0⟩ := g_arr F h.1 hty hG
  obtain ⟨j, hjz, hcl, hin, hj⟩ := iI_ix h0z hzn hn
  exact W.lald (v := v) F.1 F.2.1 h1 h6 h7 (by rw [h4]; exact hin) (by rw [hcl, h5 j hj, ← hv, hjz]; rfl) rfl rfl hd (kk p e R s m args below meth c H locs cells slots mcT msT lsA F B h hl)
theorem gr_bald {a tp n : Nat} {t : g_T} {f : Nat → Value} {z : Int} {v : Value} (hd : decode M.2.1 pc = .ok (.baload, 1)) (hG : G a = some (t, .inl (tp, n, f))) (hty : g_fa[tp]? = some .byte) (h0z : 0 ≤ z) (hzn : z < n) (hn : n < 2147483648) (hv : f z.toNat = v) (kk : g_RF w l M d mc ms (pc + 1) ls (v :: st) G Q) : g_RF w l M d mc ms pc ls (.int (iI z) :: .ref a :: st) G Q := by
  intro p e R s m args below meth c H locs cells slots mcT msT lsA F B h hl
  obtain ⟨cell, h1, h2, h3, h4, h5, h6, h7, h0⟩ := g_arr F h.1 hty hG
  obtain ⟨j, hjz, hcl, hin, hj⟩ := iI_ix h0z hzn hn
  exact W.bald (v := v) F.1 F.2.1 h1 h6 h7 (by rw [h4]; exact hin) (by rw [hcl, h5 j hj, ← hv, hjz]; rfl) rfl rfl hd (kk p e R s m args below meth c H locs cells slots mcT msT lsA F B h hl)
theorem gr_zald {a tp n : Nat} {t : g_T} {f : Nat → Value} {z : Int} {v : Value} (hd : decode M.2.1 pc = .ok (.baload, 1)) (hG : G a = some (t, .inl (tp, n, f))) (hty : g_fa[tp]? = some .boolean) (h0z : 0 ≤ z) (hzn : z < n) (hn : n < 2147483648) (hv : f z.toNat = v) (kk : g_RF w l M d mc ms (pc + 1) ls (v :: st) G Q) : g_RF w l M d mc ms pc ls (.int (iI z) :: .ref a :: st) G Q := by
  intro p e R s m args below meth c H locs cells slots mcT msT lsA F B h hl
  obtain ⟨cell, h1, h2, h3, h4, h5, h6, h7, h0⟩ := g_arr F h.1 hty hG
  obtain ⟨j, hjz, hcl, hin, hj⟩ := iI_ix h0z hzn hn
  exact W.zald (v := v) F.1 F.2.1 h1 h6 h7 (by rw [h4]; exact hin) (by rw [hcl, h5 j hj, ← hv, hjz]; rfl) rfl rfl hd (kk p e R s m args below meth c H locs cells slots mcT msT lsA F B h hl)
theorem gr_aald {a tp n : Nat} {t : g_T} {f : Nat → Value} {z : Int} {v : Value} {ty : FieldType} (hd : decode M.2.1 pc = .ok (.aaload, 1)) (hG : G a = some (t, .inl (tp, n, f))) (hty : g_fa[tp]? = some ty) (hrf : ty.isReference = true) (h0z : 0 ≤ z) (hzn : z < n) (hn : n < 2147483648) (hv : f z.toNat = v) (kk : g_RF w l M d mc ms (pc + 1) ls (v :: st) G Q) : g_RF w l M d mc ms pc ls (.int (iI z) :: .ref a :: st) G Q := by
  intro p e R s m args below meth c H locs cells slots mcT msT lsA F B h hl
  obtain ⟨cell, h1, h2, h3, h4, h5, h6, h7, h0⟩ := g_arr F h.1 hty hG
  obtain ⟨j, hjz, hcl, hin, hj⟩ := iI_ix h0z hzn hn
  exact W.aald (v := v) (ty := ty) F.1 F.2.1 h1 h6 hrf h7 (by rw [h4]; exact hin) (by rw [hcl, h5 j hj, ← hv, hjz]; rfl) rfl rfl hd (kk p e R s m args below meth c H locs cells slots mcT msT lsA F B h hl)
/-- an array's cell behind a store -/
theorem g_at_ast {H1 : Heap} {a tp n j : Nat} {f : Nat → Value} {v : Value} {cell : Cell} (h2 : g_vm w a cell) (h3 : cell.cls = w.2.1 tp) (h4 : cell.slots.size = n) (h5 : ∀ j : Nat, j < n → cell.slots[j]? = some (f j)) (hj : j < n) (e1 : H1[a]? = some (cell.setSlot j v)) : g_at w a (.inl (tp, n, g_fu f j v)) H1 := by
  refine ⟨_, e1, h2, h3, (k2_slotsz cell j v).trans h4, fun q hq => ?_⟩
  by_cases hqj : q = j
  · subst hqj
    simp [Cell.setSlot, g_fu, h4, hj]
  · show _ = some (g_fu f j v q)
    rw [slot_ne cell v (Ne.symm hqj), h5 q hq, g_fu_n hqj]
theorem gr_iast {a tp n : Nat} {t : g_T} {f : Nat → Value} {z : Int} {x : Int32} (hd : decode M.2.1 pc = .ok (.iastore, 1)) (hG : G a = some (t, .inl (tp, n, f))) (hty : g_fa[tp]? = some .int) (ht : Nat.blt 0 t.1 = true) (h0z : 0 ≤ z) (hzn : z < n) (hn : n < 2147483648) (kk : ∀ G1 : g_H, G1 = g_up G a (t, .inl (tp, n, g_fu f z.toNat (.int x))) → g_RF w l M d mc ms (pc + 1) ls st G1 Q) : g_RF w l M d mc ms pc ls (.int x :: .int (iI z) :: .ref a :: st) G Q := by
  intro p e R s m args below meth c H locs cells slots mcT msT lsA F B h hl
  obtain ⟨cell, h1, h2, h3, h4, h5, h6, h7, h0⟩ := g_arr F h.1 hty hG
  obtain ⟨j, hjz, hcl, hin, hj⟩ := iI_ix h0z hzn hn
  have hba : g_b w ≤ a := h0 (by have : 0 < t.1 := Nat.le_of_ble_eq_true ht; omega)
  refine W.iast F.1 F.2.1 h1 h6 h7 (by rw [h4]; exact hin) rfl rfl hd fun H' e1 e2 e3 => ?_
  subst hjz
  rw [hcl] at e1 ⊢
  exact kk _ rfl p e R s m args below meth c H' _ cells slots mcT msT lsA F B ⟨h.1.up (g_at_ast h2 h3 h4 h5 hj e1) (fun _ => hba) (fun q _ hq => e3 q hq), h.2.put e2 e3 hba⟩ hl
theorem gr_last {a tp n : Nat} {t : g_T} {f : Nat → Value} {z : Int} {x : Int64} (hd : decode M.2.1 pc = .ok (.lastore, 1)) (hG : G a = some (t, .inl (tp, n, f))) (hty : g_fa[tp]? = some .long) (ht : Nat.blt 0 t.1 = true) (h0z : 0 ≤ z) (hzn : z < n) (hn : n < 2147483648) (kk : ∀ G1 : g_H, G1 = g_up G a (t, .inl (tp, n, g_fu f z.toNat (.long x))) → g_RF w l M d mc ms (pc + 1) ls st G1 Q) : g_RF w l M d mc ms pc ls (.long x :: .int (iI z) :: .ref a :: st) G Q := by
  intro p e R s m args below meth c H locs cells slots mcT msT lsA F B h hl
  obtain ⟨cell, h1, h2, h3, h4, h5, h6, h7, h0⟩ := g_arr F h.1 hty hG
  obtain ⟨j, hjz, hcl, hin, hj⟩ := iI_ix h0z hzn hn
  have hba : g_b w ≤ a := h0 (by have : 0 < t.1 := Nat.le_of_ble_eq_true ht; omega)
  refine W.last F.1 F.2.1 h1 h6 h7 (by rw [h4]; exact hin) rfl rfl hd fun H' e1 e2 e3 => ?_
  subst hjz
  rw [hcl] at e1 ⊢
  exact kk _ rfl p e R s m args below meth c H' _ cells slots mcT msT lsA F B ⟨h.1.up (g_at_ast h2 h3 h4 h5 hj e1) (fun _ => hba) (fun q _ hq => e3 q hq), h.2.put e2 e3 hba⟩ hl
theorem gr_bast {a tp n : Nat} {t : g_T} {f : Nat → Value} {z : Int} {x : Int32} (hd : decode M.2.1 pc = .ok (.bastore, 1)) (hG : G a = some (t, .inl (tp, n, f))) (hty : g_fa[tp]? = some .byte) (ht : Nat.blt 0 t.1 = true) (h0z : 0 ≤ z) (hzn : z < n) (hn : n < 2147483648) (hx : narrow .byte (.int x) = .int x) (kk : ∀ G1 : g_H, G1 = g_up G a (t, .inl (tp, n, g_fu f z.toNat (.int x))) → g_RF w l M d mc ms (pc + 1) ls st G1 Q) : g_RF w l M d mc ms pc ls (.int x :: .int (iI z) :: .ref a :: st) G Q := by
  intro p e R s m args below meth c H locs cells slots mcT msT lsA F B h hl
  obtain ⟨cell, h1, h2, h3, h4, h5, h6, h7, h0⟩ := g_arr F h.1 hty hG
  obtain ⟨j, hjz, hcl, hin, hj⟩ := iI_ix h0z hzn hn
  have hba : g_b w ≤ a := h0 (by have : 0 < t.1 := Nat.le_of_ble_eq_true ht; omega)
  refine W.bast F.1 F.2.1 h1 h6 h7 (by rw [h4]; exact hin) rfl rfl hd fun H' e1 e2 e3 => ?_
  subst hjz
  rw [hcl] at e1 ⊢
  rw [hx] at e1; exact kk _ rfl p e R s m args below meth c H' _ cells slots mcT msT lsA F B ⟨h.1.up (g_at_ast h2 h3 h4 h5 hj e1) (fun _ => hba) (fun q _ hq => e3 q hq), h.2.put e2 e3 hba⟩ hl
theorem gr_zast {a tp n : Nat} {t : g_T} {f : Nat → Value} {z : Int} {x : Int32} (hd : decode M.2.1 pc = .ok (.bastore, 1)) (hG : G a = some (t, .inl (tp, n, f))) (hty : g_fa[tp]? = some .boolean) (ht : Nat.blt 0 t.1 = true) (h0z : 0 ≤ z) (hzn : z < n) (hn : n < 2147483648) (hx : narrow .boolean (.int x) = .int x) (kk : ∀ G1 : g_H, G1 = g_up G a (t, .inl (tp, n, g_fu f z.toNat (.int x))) → g_RF w l M d mc ms (pc + 1) ls st G1 Q) : g_RF w l M d mc ms pc ls (.int x :: .int (iI z) :: .ref a :: st) G Q := by
  intro p e R s m args below meth c H locs cells slots mcT msT lsA F B h hl
  obtain ⟨cell, h1, h2, h3, h4, h5, h6, h7, h0⟩ := g_arr F h.1 hty hG
  obtain ⟨j, hjz, hcl, hin, hj⟩ := iI_ix h0z hzn hn
  have hba : g_b w ≤ a := h0 (by have : 0 < t.1 := Nat.le_of_ble_eq_true ht; omega)
  refine W.zast F.1 F.2.1 h1 h6 h7 (by rw [h4]; exact hin) rfl rfl hd fun H' e1 e2 e3 => ?_
  subst hjz
  rw [hcl] at e1 ⊢
  rw [hx] at e1; exact kk _ rfl p e R s m args below meth c H' _ cells slots mcT msT lsA F B ⟨h.1.up (g_at_ast h2 h3 h4 h5 hj e1) (fun _ => hba) (fun q _ hq => e3 q hq), h.2.put e2 e3 hba⟩ hl
end GR2
