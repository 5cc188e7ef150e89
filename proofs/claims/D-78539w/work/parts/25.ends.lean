/-! rows of the judgement: references out and stored, throws, handlers, a method's entry -/
set_option maxRecDepth 100000
section GR5
variable {w : g_W} {l : Launch} {M : g_M} {d mc ms pc : Nat} {ls : g_L} {st : List Value} {G : g_H} {Q : g_Q}
theorem gr_aret {v : Value} {rt : FieldType} (hd : decode M.2.1 pc = .ok (.areturn, 1)) (hr : M.2.2.2.1 = some rt) (hrt : (∃ n, rt = .object n) ∨ ∃ t, rt = .array t) (hv : v = .null ∨ ∃ a, v = .ref a) (hq : Q (.inl (some v)) G) : g_RF w l M d mc ms pc ls [v] G Q := by
  intro p e R s m args below meth c H locs cells slots mcT msT lsA F B h hl
  refine W.widen (k := mcT) (n := msT) (by have := B.1; omega) (by have := B.2.2.1; omega) (gx_ret ?_)
  exact W.aret F.1 F.2.1 (F.2.2.2.1.trans hr) hrt hv (fun t ht _ => g_end (p := p) (e := e) (R := R) (m := m) (below := below) (meth := meth) (c := c) h ht hq) h.2.2.2 hd F.2.2.2.2.2.1
/-- a store of a reference: C is the class of what is stored, the array is one of E -/
theorem g_aast {p : Program} {R : Room} {s : State} {m : MethodId} {args : Array Value} {meth : Method} {c : Code} {e : Env} {below : List Frame} {H : Heap} {locs : List Loc} {cells slots mcT msT : Nat} {lsA : Array Slot} (F : g_Fx l w M d p R s m args meth c) (h : g_Fh w s G H locs) {a tp n v : Nat} {t : g_T} {f : Nat → Value} {E C : String} {z : Int} (hd : decode M.2.1 pc = .ok (.aastore, 1)) (hG : G a = some (t, .inl (tp, n, f))) (hty : g_ft[tp]? = some (.object E)) (ht : Nat.blt 0 t.1 = true) (h0z : 0 ≤ z) (hzn : z < n) (hn : n < 2147483648) (hca : Cond.castable C E ∈ lw_tbl ∨ C = E)
    {cv : Cell} {kv : Class} (hv : H[v]? = some cv) (hvm : cv.vm.isStatics = false) (hcv : s.vm.findClass C = some cv.cls) (hkv : s.vm.classes[cv.cls]? = some kv) (hself : C = E → ClassAt s C cv.cls)
    (kk : ∀ (H1 : Heap) (locs1 : List Loc), g_Fh w s (g_up G a (t, .inl (tp, n, g_fu f z.toNat (.ref v)))) H1 locs1 → W p l e R s m args below meth c H1 locs1 cells slots (gx_MQ below (g_Qc w Q) (g_XC w Q) args s mcT msT (g_A w)) (F0 m (pc + 1) lsA st)) : W p l e R s m args below meth c H locs cells slots (gx_MQ below (g_Qc w Q) (g_XC w Q) args s mcT msT (g_A w)) (F0 m pc lsA (.ref v :: .int (iI z) :: .ref a :: st)) := by
  have hfa : g_fa[tp]? = some (.object E) := by
    have hlt : tp < g_ft.length := (List.getElem?_eq_some_iff.mp hty).1
    unfold g_fa
    rw [List.getElem?_append_left hlt]
    exact hty
  obtain ⟨cell, h1, h2, h3, h4, h5, h6, h7, h0⟩ := g_arr F h.1 hfa hG
  obtain ⟨j, hjz, hcl, hin, hj⟩ := iI_ix h0z hzn hn
  have hba : g_b w ≤ a := h0 (by have : 0 < t.1 := Nat.le_of_ble_eq_true ht; omega)
  obtain ⟨kA, comp, k1, k2, k3, -⟩ := (F.K.1.2 tp _ (g_tys_at hty)).2
  have hasg : s.vm.assignable cv.cls comp = true := by
    rcases hca with e9 | e9
    · obtain ⟨c0, t0, f1, f2, f3⟩ := Cond.castable_spec (va_Nw.use (A := args) rfl (F.K.2.1.2.2.1 _ _ e9))
      cases Option.some.inj (f1.symm.trans hcv)
      cases Option.some.inj (f2.symm.trans k3)
      exact f3
    · subst e9
      cases Option.some.inj (k3.symm.trans hcv)
      exact va_assign (hself rfl)
  obtain ⟨kc, hkc, -⟩ := Vm.findClass_spec k3
  refine W.aast F.1 F.2.1 h1 (fun q hq => by have := h2.known.2; rw [hq] at this; cases this) h7 (by rw [h3]; exact k1) k2 rfl hkc ⟨fun q => hin (Or.inl q), by rw [hcl, h4]; exact hj⟩ hv (fun q hq => by rw [hq] at hvm; cases hvm) hkv hasg rfl rfl hd fun H' e1 e2 e3 => ?_
  subst hjz
  rw [hcl] at e1 ⊢
  exact kk H' _ ⟨h.1.up (g_at_ast h2 h3 h4 h5 hj e1) (fun _ => hba) (fun q _ hq => e3 q hq), h.2.put e2 e3 hba⟩
theorem gr_aast {a tp n : Nat} {t tv : g_T} {f : Nat → Value} {z : Int} {v ci : Nat} {fs : List Value} {r : vw_C} {E : String} (hd : decode M.2.1 pc = .ok (.aastore, 1)) (hG : G a = some (t, .inl (tp, n, f))) (hV : G v = some (tv, .inr (ci, fs))) (hc : g_cl[ci]? = some r) (hty : g_ft[tp]? = some (.object E)) (ht : Nat.blt 0 t.1 = true) (h0z : 0 ≤ z) (hzn : z < n) (hn : n < 2147483648) (hca : Cond.castable r.1 E ∈ lw_tbl ∨ r.1 = E)
    (kk : ∀ G1 : g_H, G1 = g_up G a (t, .inl (tp, n, g_fu f z.toNat (.ref v))) → g_RF w l M d mc ms (pc + 1) ls st G1 Q) : g_RF w l M d mc ms pc ls (.ref v :: .int (iI z) :: .ref a :: st) G Q := by
  intro p e R s m args below meth c H locs cells slots mcT msT lsA F B h hl
  obtain ⟨cell, r', q1, q2, q3, q4, -⟩ := (h.1 v tv _ hV).1
  cases Option.some.inj (q4.symm.trans hc)
  have hca2 := (F.K.1.1 ci _ hc).2
  obtain ⟨kv, hkv, -⟩ := hca2.2
  exact g_aast F h hd hG hty ht h0z hzn hn hca q1 q2.known.2 (by rw [q3]; exact hca2.1) (by rw [q3]; exact hkv) (fun _ => by rw [q3]; exact hca2) (fun H1 locs1 h1 => kk _ rfl p e R s m args below meth c H1 locs1 cells slots mcT msT lsA F B h1 hl)
/-- the same of an array that is stored -/
theorem gr_aastA {a tp n : Nat} {t tv : g_T} {f : Nat → Value} {z : Int} {v tpv nv : Nat} {fv : Nat → Value} {tyv : FieldType} {E C : String} (hd : decode M.2.1 pc = .ok (.aastore, 1)) (hG : G a = some (t, .inl (tp, n, f))) (hV : G v = some (tv, .inl (tpv, nv, fv))) (htv : g_ft[tpv]? = some tyv) (hC : "[" ++ tyv.toString = C) (hty : g_ft[tp]? = some (.object E)) (ht : Nat.blt 0 t.1 = true) (h0z : 0 ≤ z) (hzn : z < n) (hn : n < 2147483648) (hca : Cond.castable C E ∈ lw_tbl) (hne : C ≠ E)
    (kk : ∀ G1 : g_H, G1 = g_up G a (t, .inl (tp, n, g_fu f z.toNat (.ref v))) → g_RF w l M d mc ms (pc + 1) ls st G1 Q) : g_RF w l M d mc ms pc ls (.ref v :: .int (iI z) :: .ref a :: st) G Q := by
  intro p e R s m args below meth c H locs cells slots mcT msT lsA F B h hl
  obtain ⟨cell, q1, q2, q3, -⟩ := (h.1 v tv _ hV).1
  have hnm := g_nm F htv
  rw [hC] at hnm
  obtain ⟨kv, hkv, -⟩ := Vm.findClass_spec hnm
  exact g_aast F h hd hG hty ht h0z hzn hn (Or.inl hca) q1 q2.known.2 (by rw [q3]; exact hnm) (by rw [q3]; exact hkv) (fun e9 => absurd e9 hne) (fun H1 locs1 h1 => kk _ rfl p e R s m args below meth c H1 locs1 cells slots mcT msT lsA F B h1 hl)
theorem gr_aastN {a tp n : Nat} {t : g_T} {f : Nat → Value} {z : Int} {E : String} (hd : decode M.2.1 pc = .ok (.aastore, 1)) (hG : G a = some (t, .inl (tp, n, f))) (hty : g_fa[tp]? = some (.object E)) (ht : Nat.blt 0 t.1 = true) (h0z : 0 ≤ z) (hzn : z < n) (hn : n < 2147483648)
    (kk : ∀ G1 : g_H, G1 = g_up G a (t, .inl (tp, n, g_fu f z.toNat .null)) → g_RF w l M d mc ms (pc + 1) ls st G1 Q) : g_RF w l M d mc ms pc ls (.null :: .int (iI z) :: .ref a :: st) G Q := by
  intro p e R s m args below meth c H locs cells slots mcT msT lsA F B h hl
  obtain ⟨cell, h1, h2, h3, h4, h5, h6, h7, h0⟩ := g_arr F h.1 hty hG
  obtain ⟨j, hjz, hcl, hin, hj⟩ := iI_ix h0z hzn hn
  have hba : g_b w ≤ a := h0 (by have : 0 < t.1 := Nat.le_of_ble_eq_true ht; omega)
  refine va_WaastN (C := E) F.1 F.2.1 h1 h6 h7 (by rw [h4]; exact hin) rfl rfl hd fun H' e1 e2 e3 => ?_
  subst hjz
  rw [hcl] at e1 ⊢
  exact kk _ rfl p e R s m args below meth c H' _ cells slots mcT msT lsA F B ⟨h.1.up (g_at_ast h2 h3 h4 h5 hj e1) (fun _ => hba) (fun q _ hq => e3 q hq), h.2.put e2 e3 hba⟩ hl
/-- Object.<init> -/
theorem gr_objInit {idx a : Nat} (hd : decode M.2.1 pc = .ok (.invokespecial idx, 3)) (hlink : Cond.methodLink M.1.cls idx Lib.objectInit ∈ lw_all) (hinst : Cond.instanceMethod Lib.objectInit ∈ lw_all) (hcode : Cond.code Lib.objectInit ⟨#[0xb1]⟩ 1 none ∈ lw_all) (h8 : Nat.ble (st.map Value.category).sum 8 = true) (hd0 : 0 < d) (kk : g_RF w l M d mc ms (pc + 3) ls st G Q) : g_RF w l M d mc ms pc ls (.ref a :: st) G Q := by
  intro p e R s m args below meth c H locs cells slots mcT msT lsA F B h hl
  have hrm := F.rm
  have h8' := Nat.le_of_ble_eq_true h8
  exact W.objInit F.1 F.2.1 F.own (F.ts _ hlink) (F.ts _ hinst) (F.ts _ hcode) rfl (hl.1.trans F.2.2.1.symm) rfl hd (by omega) (by show 2 * 0 + _ + 12 ≤ _; have : (st.map fun v => v.category).sum ≤ 8 := h8'; omega) (kk p e R s m args below meth c H locs cells slots mcT msT lsA F B h hl)
/-! throws -/
theorem gr_out {E : String} {q : Nat} (hout : (tableOf (g_hh M)).all (fun x => !covers x pc) = true) (hq : Q (.inr (E, q)) G) : g_RX w l M d mc ms pc ls G Q E q := by
  intro p e R s m args below meth c H locs cells slots mcT msT lsA st F B h hl ⟨ce, c1, c2, c3⟩
  refine vx_widen (k := mcT) (n := msT) (by have := B.1; omega) (by have := B.2.2.1; omega) ?_
  exact gx_out (outside_of_table F.2.2.2.2.1 hout) F.2.2.2.2.2.1 c1 c2 c3 (fun t ht _ => ⟨G, hq, by rw [ht]; exact h.1, h.2.F ht⟩) h.2.2.2 (Nat.le_refl _) (Nat.le_refl _)
/-- caught by a handler; those ahead of it don't cover, or are of other classes -/
theorem gr_catch {E name : String} {q : Nat} (pre : List (Nat × Nat × Nat × Nat)) (x : Nat × Nat × Nat × Nat) (suf : List (Nat × Nat × Nat × Nat)) (hsp : g_hh M = pre ++ x :: suf)
    (hpass : ∀ z ∈ pre, covers ⟨z.1, z.2.1, z.2.2.1, z.2.2.2⟩ pc = false ∨ (z.2.2.2 ≠ 0 ∧ ∃ nm : String, Cond.classLink M.1.cls z.2.2.2 nm ∈ lw_all ∧ Cond.not (.castable E nm) ∈ g_nots)) (hx : covers ⟨x.1, x.2.1, x.2.2.1, x.2.2.2⟩ pc = true) (h0 : x.2.2.2 ≠ 0) (hlink : Cond.classLink M.1.cls x.2.2.2 name ∈ lw_all) (hca : Cond.castable E name ∈ lw_tbl)
    (kk : g_RF w l M d mc ms x.2.2.1 ls [.ref q] G Q) : g_RX w l M d mc ms pc ls G Q E q := by
  intro p e R s m args below meth c H locs cells slots mcT msT lsA st F B h hl ⟨ce, c1, c2, c3⟩
  have hsplit : c.exceptionTable.toList = tableOf pre ++ ⟨x.1, x.2.1, x.2.2.1, x.2.2.2⟩ :: tableOf suf := by
    rw [F.2.2.2.2.1, hsp]
    simp [tableOf]
  refine vx_catch F.own (tableOf pre) _ (tableOf suf) hsplit ?_ hx h0 (F.ts _ hlink) (va_Nw.use rfl (F.K.2.1.2.2.1 _ _ hca)) c1 c2 c3 (kk p e R s m args below meth c H locs cells slots mcT msT lsA F B h hl)
  intro z hz
  obtain ⟨y, hy, rfl⟩ := List.mem_map.mp hz
  rcases hpass y hy with h1 | ⟨h1, nm, h2, h3⟩
  · exact Or.inl h1
  · exact Or.inr ⟨h1, nm, F.ts _ h2, F.K.2.1.2.2.2.2.2.2.1 _ _ h3⟩
/-- throw of an object of a known class -/
theorem gr_athrow {q ci : Nat} {t : g_T} {fs : List Value} {r : vw_C} {E : String} (hd : decode M.2.1 pc = .ok (.athrow, 1)) (hG : G q = some (t, .inr (ci, fs))) (hc : g_cl[ci]? = some r) (hE : r.1 = E) (ht : Nat.blt 0 t.1 = true) (kk : g_RX w l M d mc ms pc ls G Q E q) : g_RF w l M d mc ms pc ls (.ref q :: st) G Q := by
  intro p e R s m args below meth c H locs cells slots mcT msT lsA F B h hl
  obtain ⟨⟨cell, r', q1, q2, q3, q4, -⟩, h0⟩ := h.1 q t _ hG
  cases Option.some.inj (q4.symm.trans hc)
  have hba : g_b w ≤ q := h0 (by have : 0 < t.1 := Nat.le_of_ble_eq_true ht; omega)
  exact vx_athrow F.1 F.2.1 hd (kk p e R s m args below meth c H locs cells slots mcT msT lsA st F B h hl ⟨cell, q1, q2.none hba, by rw [← hE, q3]; exact (F.K.1.1 ci _ hc).2.1⟩)
/-- entry: a method without handlers, and one with -/
theorem g_entry {mcT msT : Nat} {As : List Value} {n : Nat} (hok : g_ok M n) (hL : Nat.ble (lg_sl As).length M.2.2.1 = true) (k : g_RF w l M d mcT msT 0 (g_ls (lv_args 0 As)) [] G Q) : g_Met w l M d mcT msT As G Q := by
  intro hst
  have hL' := Nat.le_of_ble_eq_true hL
  obtain ⟨y, bytes, maxL, ret, hh⟩ := M
  have body : ∀ (tb : List (Nat × Nat × Nat × Nat)) p e s m args below meth c s₁, BodyLoose p l y (headSpec (g_ws (y, bytes, maxL, ret, hh)) (g_rm d mcT msT)) bytes maxL ret e s m args below meth c s₁ → c.maxLocals = maxL → c.exceptionTable.toList = tableOf (g_hh (y, bytes, maxL, ret, hh)) → g_Pc w As G args s →
      W p l e (headSpec (g_ws (y, bytes, maxL, ret, hh)) (g_rm d mcT msT)).room s m args below meth c s.heap [] 0 0 (gx_MQ below (g_Qc w Q) (g_XC w Q) args s mcT msT (g_A w)) (entryFrame m args maxL) := by
    intro tb p e s m args below meth c s₁ B hml htab hP
    obtain ⟨rfl, hbs, hK, hLi, hS, hR⟩ := hP
    have hts := atoms_spec (ws := g_ws (y, bytes, maxL, ret, hh)) B.pre
    rw [lg_entry_eq]
    have hl := lv_entry As (n := maxL) hL'
    refine k p e _ s m As.toArray below meth c s.heap [] 0 0 mcT msT _ ⟨B.exec, B.bytes, hml, B.returns, htab, B.notSynchronized, ?_, findClass_of_methodNamed B.named, fun x hx => hts x (List.mem_cons_of_mem _ hx), ⟨Nat.le_refl _, Nat.le_refl _⟩, hK, hLi, hS, hbs, hst⟩ ⟨by omega, Nat.le_refl _, by omega, Nat.le_refl _⟩ ⟨hR, va_S.rf⟩ ?_
    · exact (name_of_methodNamed B.named B.method).1
    · refine ⟨hl.1, hl.2.1, fun kx v hkx => ?_⟩
      have : ∀ (lc : List (Nat × Value)), (∀ q ∈ lc, (lg_sl As ++ List.replicate (maxL - (lg_sl As).length) Slot.unset).toArray[q.1]? = some (.val q.2)) → ∀ (k : Nat) (v : Value), g_lk (g_ls lc) k = some v → (lg_sl As ++ List.replicate (maxL - (lg_sl As).length) Slot.unset).toArray[k]? = some (.val v) := by
        intro lc
        induction lc with
        | nil => intro _ k v hk; cases hk
        | cons q t ih =>
          intro hq k v hk
          have h' : (bif Nat.beq q.1 k then some q.2 else g_lk (g_ls t) k) = some v := hk
          cases hb : Nat.beq q.1 k with
          | true => rw [hb] at h'; cases h'; rw [← Nat.eq_of_beq_eq_true hb]; exact hq q List.mem_cons_self
          | false => rw [hb] at h'; exact ih (fun z hz => hq z (List.mem_cons_of_mem _ hz)) k v h'
      exact this _ hl.2.2 kx v hkx
  cases hh with
  | none => exact gx_ofW (cc := bytes) (maxL := maxL) (ret := ret) hok.2.2.2.1 rfl (fun p e s m args below meth c s₁ B hml ht hP => body [] p e s m args below meth c s₁ B hml (List.eq_nil_iff_forall_not_mem.mpr ht) hP)
  | some hh => exact gx_ofWH (cc := bytes) (maxL := maxL) (ret := ret) (hh := hh) hok.2.2.2.1 rfl (fun p e s m args below meth c s₁ B hml hP => body hh p e s m args below meth c s₁ B hml (vx_table (x := y) B (atoms_spec (ws := g_ws (y, bytes, maxL, ret, some hh)) B.pre _ List.mem_cons_self)) hP)
/-- what is owed may be less -/
theorem g_Met.mono {Q' : g_Q} {As : List Value} (h : g_Met w l M d mc ms As G Q) (hq : ∀ o G', Q o G' → Q' o G') : g_Met w l M d mc ms As G Q' := by
  intro hst
  have h := h hst
  unfold gx_Met at *
  refine MetFree.mono h (fun _ _ z => z) (fun _ _ _ _ _ z => z) ?_
  intro a s o t _ hx
  rcases hx with ⟨⟨v, G', e1, e2, e3⟩, h2⟩ | ⟨q, h1, E, ce, L, ⟨G', e2, e3⟩, h2⟩
  · exact Or.inl ⟨⟨v, G', e1, hq _ _ e2, e3⟩, h2⟩
  · exact Or.inr ⟨q, h1, E, ce, L, ⟨G', hq _ _ e2, e3⟩, h2⟩
end GR5
