/-! rows of the judgement: Math, arraycopy, arrays of arrays, Object[] stores, throws of the JDK's own exceptions; posts -/
set_option maxRecDepth 100000
/-- posts: a normal end; a value and the same heap; -/
def g_rt (P : Option Value → g_H → Prop) : g_Q := fun o G => match o with
  | .inl v => P v G
  | .inr _ => False
abbrev g_rv (v : Value) (G : g_H) : g_Q := g_rt (fun r G' => r = some v ∧ G = G')
/-- a normal end, or a throw of the JDK's E with the same heap -/
def g_rx (P : Option Value → g_H → Prop) (X : String → Nat → g_H → Prop) : g_Q := fun o G => match o with
  | .inl v => P v G
  | .inr e => X e.1 e.2 G
/-- an object of a known class stands there -/
def g_ob (G : g_H) (a : Nat) : Prop := ∃ (t : g_T) (ci : Nat) (fs : List Value), G a = some (t, .inr (ci, fs))
theorem g_obj_cast : ∀ (ci : Nat) (r : vw_C), g_cl[ci]? = some r → Cond.castable r.1 "java/lang/Object" ∈ lw_tbl := by
  intro ci r h
  have hm := List.mem_of_getElem? h
  unfold g_cl at hm
  simp only [List.mem_cons, List.not_mem_nil, or_false] at hm
  rcases hm with e | e | e | e | e | e | e | e | e | e | e | e | e | e | e | e | e | e | e <;> subst e
  · exact q2399
  · exact q2397
  · exact q2398
  · exact q2403
  · exact q2406
  · exact q2407
  · exact q2413
  · exact q2405
  · exact q2418
  · exact q2415
  · exact q2416
  · exact q2417
  · exact q2419
  · exact q2420
  · exact q2400
  · exact q2401
  · exact q2402
  · exact q2404
  · exact q2410
section GN1
variable {w : g_W} {l : Launch} {M : g_M} {d mc ms pc : Nat} {ls : g_L} {st : List Value} {G : g_H} {Q : g_Q}
theorem gr_aastO {a tp n v : Nat} {t : g_T} {f : Nat → Value} {z : Int} (hd : decode M.2.1 pc = .ok (.aastore, 1)) (hG : G a = some (t, .inl (tp, n, f))) (hV : g_ob G v) (hty : tp = 4) (ht : Nat.blt 0 t.1 = true) (h0z : 0 ≤ z) (hzn : z < n) (hn : n < 2147483648)
    (kk : ∀ G1 : g_H, G1 = g_up G a (t, .inl (tp, n, g_fu f z.toNat (.ref v))) → g_RF w l M d mc ms (pc + 1) ls st G1 Q) : g_RF w l M d mc ms pc ls (.ref v :: .int (iI z) :: .ref a :: st) G Q := by
  intro p e R s m args below meth c H locs cells slots mcT msT lsA F B h hl
  obtain ⟨tv, ci, fs, hV⟩ := hV
  obtain ⟨cell, r, q1, q2, q3, q4, -⟩ := (h.1 v tv _ hV).1
  exact gr_aast (r := r) hd hG hV q4 (E := "java/lang/Object") (by subst hty; rfl) ht h0z hzn hn (Or.inl (g_obj_cast ci r q4)) kk p e R s m args below meth c H locs cells slots mcT msT lsA F B h hl
theorem gi_mmax {a b : Int} {idx : Nat} (hd : decode M.2.1 pc = .ok (.invokestatic idx, 3)) (hlink : Cond.methodLink M.1.cls idx Lib.Math.max.name ∈ lw_all) (ha : g_i32 a) (hb : g_i32 b) (hd0 : 0 < d) (h8 : Nat.ble (st.map Value.category).sum 8 = true) (k : g_RF w l M d mc ms (pc + 3) ls (.int (iI (max a b)) :: st) G Q) : g_RF w l M d mc ms pc ls (.int (iI b) :: .int (iI a) :: st) G Q := by
  intro p e R s m args below meth c H locs cells slots mcT msT lsA F B h hl
  have hrm := F.rm
  have h8' : (st.map fun v => v.category).sum ≤ 8 := Nat.le_of_ble_eq_true h8
  have e1 : (if iI a < iI b then iI b else iI a) = iI (max a b) := by
    simp only [iI_lt ha hb]
    split
    · congr 1; omega
    · congr 1; omega
  exact va_mmax F.1 F.2.1 (F.2.2.1.trans hl.1.symm) F.own (F.ts _ hlink) (F.ts _ q349) (F.ts _ q103) (F.ts _ q350) (by omega) (by omega) (by have := B; unfold g_Fb at this; omega) (by have := B; unfold g_Fb at this; omega) hd (by rw [e1]; exact k p e R s m args below meth c H locs cells slots mcT msT lsA F B h hl)
theorem gi_mmin {a b : Int} {idx : Nat} (hd : decode M.2.1 pc = .ok (.invokestatic idx, 3)) (hlink : Cond.methodLink M.1.cls idx Lib.Math.min.name ∈ lw_all) (ha : g_i32 a) (hb : g_i32 b) (hd0 : 0 < d) (h8 : Nat.ble (st.map Value.category).sum 8 = true) (k : g_RF w l M d mc ms (pc + 3) ls (.int (iI (min a b)) :: st) G Q) : g_RF w l M d mc ms pc ls (.int (iI b) :: .int (iI a) :: st) G Q := by
  intro p e R s m args below meth c H locs cells slots mcT msT lsA F B h hl
  have hrm := F.rm
  have h8' : (st.map fun v => v.category).sum ≤ 8 := Nat.le_of_ble_eq_true h8
  have e1 : (if iI b < iI a then iI b else iI a) = iI (min a b) := by
    simp only [iI_lt hb ha]
    split
    · congr 1; omega
    · congr 1; omega
  exact va_mmin F.1 F.2.1 (F.2.2.1.trans hl.1.symm) F.own (F.ts _ hlink) (F.ts _ q393) (F.ts _ q103) (F.ts _ q394) (by omega) (by omega) (by have := B; unfold g_Fb at this; omega) (by have := B; unfold g_Fb at this; omega) hd (by rw [e1]; exact k p e R s m args below meth c H locs cells slots mcT msT lsA F B h hl)
/-- System.arraycopy: what lies behind -/
def g_cp (f g : Nat → Value) (sp dp n : Nat) : Nat → Value := fun k => if dp ≤ k ∧ k < dp + n then f (sp + (k - dp)) else g k
def g_ck (G : g_H) (tp : Nat) (v : Value) : Prop := match v with
  | .ref x => tp = 4 ∧ g_ob G x
  | .null => tp = 4
  | v => ∃ ty, g_fa[tp]? = some ty ∧ refKind ty = false ∧ fits ty v = true
theorem gr_copy {a0 a1 tp n0 n1 idx : Nat} {t0 t1 : g_T} {f g : Nat → Value} {ty : FieldType} {sp dp n : Int} (hd : decode M.2.1 pc = .ok (.invokestatic idx, 3)) (hlink : Cond.methodLink M.1.cls idx arraycopyName ∈ lw_all) (hty : g_ft[tp]? = some ty)
    (tp0 : Nat) (hty0 : g_fa[tp0]? = some ty) (hG0 : G a0 = some (t0, .inl (tp0, n0, f))) (hG1 : G a1 = some (t1, .inl (tp, n1, g))) (ht : Nat.blt 0 t1.1 = true) (hs : g_i32 sp ∧ 0 ≤ sp) (hdp : g_i32 dp ∧ 0 ≤ dp) (hn : g_i32 n ∧ 0 ≤ n) (h0 : sp + n ≤ n0) (h1 : dp + n ≤ n1) (hv : ∀ i : Nat, i < n.toNat → g_ck G tp (f (sp.toNat + i))) (hd0 : 0 < d) (h8 : Nat.ble (st.map Value.category).sum 8 = true)
    (kk : ∀ G1 : g_H, G1 = g_up G a1 (t1, .inl (tp, n1, g_cp f g sp.toNat dp.toNat n.toNat)) → g_RF w l M d mc ms (pc + 3) ls st G1 Q) : g_RF w l M d mc ms pc ls (.int (iI n) :: .int (iI dp) :: .ref a1 :: .int (iI sp) :: .ref a0 :: st) G Q := by
  intro p e R s m args below meth c H locs cells slots mcT msT lsA F B h hl
  have hrm := F.rm
  have h8' : (st.map fun v => v.category).sum ≤ 8 := Nat.le_of_ble_eq_true h8
  have hfa : g_fa[tp]? = some ty := by
    have hlt : tp < g_ft.length := (List.getElem?_eq_some_iff.mp hty).1
    unfold g_fa
    rw [List.getElem?_append_left hlt]
    exact hty
  obtain ⟨sp, rfl⟩ : ∃ k : Nat, sp = (k : Int) := ⟨sp.toNat, by omega⟩
  obtain ⟨dp, rfl⟩ : ∃ k : Nat, dp = (k : Int) := ⟨dp.toNat, by omega⟩
  obtain ⟨n, rfl⟩ : ∃ k : Nat, n = (k : Int) := ⟨n.toNat, by omega⟩
  obtain ⟨cs, s1, s2, s3, s4, s5, s6, s7, -⟩ := g_arr F h.1 hty0 hG0
  obtain ⟨cd, d1, d2, d3, d4, d5, d6, d7, d0⟩ := g_arr F h.1 hfa hG1
  have hba : g_b w ≤ a1 := d0 (by have : 0 < t1.1 := Nat.le_of_ble_eq_true ht; omega)
  obtain ⟨ks, cms, ks1, ks2⟩ := F.K.2.2 tp0 ty hty0
  obtain ⟨kd, cmd, kd1, kd2⟩ := F.K.2.2 tp ty hfa
  have eS : (iI (sp : Int)).toNatClampNeg = sp := by rw [iI_nI]; exact nI_clamp (by omega)
  have eD : (iI (dp : Int)).toNatClampNeg = dp := by rw [iI_nI]; exact nI_clamp (by omega)
  have eN : (iI (n : Int)).toNatClampNeg = n := by rw [iI_nI]; exact nI_clamp (by omega)
  have hw : nativeFrameWords "java/lang/System" "arraycopy" 5 ≤ 30 := by decide
  have hget : ∀ i, i < n → cs.slots.getD (sp + i) .null = f (sp + i) := by
    intro i hi
    rw [Array.getD_eq_getD_getElem?, s5 _ (by omega)]
    rfl
  intro T hT X
  obtain ⟨vm', X', step⟩ := X.arraycopy F.1 F.own (F.ts _ hlink) (F.ts _ q397) (F.ts _ q396) (F.ts _ q105) (src := a0) (dst := a1) (cs := cs) (cd := cd) (srcPos := iI sp) (destPos := iI dp) (n := iI n) (by rw [hT]; exact s1) (by rw [hT]; exact d1)
    (fun q hq => by have := s2.known.2; rw [hq] at this; cases this) (fun q hq => by have := d2.known.2; rw [hq] at this; cases this) s7 d7 (by rw [s3]; exact ks1) (by rw [d3]; exact kd1) ks2 kd2 (by simp) (by rw [iI_nI]; exact nI_pos (by omega)) (by rw [iI_nI]; exact nI_pos (by omega)) (by rw [iI_nI]; exact nI_pos (by omega))
    (by rw [iI_toInt hs.1.1 hs.1.2, iI_toInt hn.1.1 hn.1.2, s4]; omega) (by rw [iI_toInt hdp.1.1 hdp.1.2, iI_toInt hn.1.1 hn.1.2, d4]; omega)
    (fun vm₁ hvm i hi => by
      rw [eS, eN] at *
      rw [hget i hi]
      have h9 := hv i (by simpa using hi)
      have h9 : g_ck G tp (f (sp + i)) := by simpa using h9
      cases hfv : f (sp + i) with
      | ref x =>
        rw [hfv] at h9
        obtain ⟨rfl, tv, ci, fs, hx⟩ := h9
        obtain rfl : FieldType.object "java/lang/Object" = ty := Option.some.inj hty
        refine ⟨rfl, ?_⟩
        obtain ⟨cell, r, q1, q2, q3, q4, -⟩ := (h.1 x tv _ hx).1
        have hca2 := (F.K.1.1 ci _ q4).2
        obtain ⟨kv, hkv, -⟩ := hca2.2
        obtain ⟨kA, comp, k1, k2, k3, -⟩ := (F.K.1.2 4 _ (g_tys_at hty)).2
        have hcc : comp = cmd := by
          have := k1.symm.trans kd1
          cases Option.some.inj this
          rw [k2] at kd2
          cases kd2
          rfl
        subst hcc
        obtain ⟨c0, t9, f1, f2, f3⟩ := Cond.castable_spec (va_Nw.use (A := args) rfl (F.K.2.1.2.2.1 _ _ (g_obj_cast ci r q4)))
        cases Option.some.inj (f1.symm.trans hca2.1)
        cases Option.some.inj (f2.symm.trans k3)
        obtain ⟨kc, hkc, -⟩ := Vm.findClass_spec k3
        obtain ⟨kv', hkv', -⟩ := hvm.2.2 _ _ hkv
        obtain ⟨kc', hkc', -⟩ := hvm.2.2 _ _ hkc
        have hns : ∀ q, cell.vm ≠ .statics q := by
          intro q hq
          have h7 := q2.known.2
          rw [hq] at h7
          cases h7
        refine ⟨cell, by show T.heap[x]? = _; rw [hT]; exact q1, hns, ⟨kv', by show vm₁.classes[cell.cls]? = _; rw [q3]; exact hkv'⟩, ⟨kc', hkc'⟩, ?_⟩
        rw [q3]
        show vm₁.assignable _ _ = true
        first | (rw [← hvm.assignable]; exact f3) | (rw [hvm.assignable]; exact f3)
      | null =>
        rw [hfv] at h9
        have h9 : tp = 4 := h9
        subst h9
        obtain rfl : FieldType.object "java/lang/Object" = ty := Option.some.inj hty
        exact ⟨rfl, trivial⟩
      | _ =>
        rw [hfv] at h9
        obtain ⟨ty', e1, e2, e3⟩ := h9
        obtain rfl : ty' = ty := Option.some.inj (e1.symm.trans hfa)
        exact ⟨e3, trivial⟩)
    (g := F0 m pc lsA (.int (iI n) :: .int (iI dp) :: .ref a1 :: .int (iI sp) :: .ref a0 :: st)) rfl (by show lsA.size = _; rw [hl.1, F.2.2.1]) (rest := st) rfl (by rw [F.2.1]; exact hd) (by omega) (by show 2 * 0 + _ + _ ≤ _; omega)
  have hlt : a1 < (T.setVm vm').heap.size := by
    show a1 < T.heap.size
    rw [hT]
    exact (Array.getElem?_eq_some_iff.mp d1).1
  have hsz : (cs.stretch sp n).length = n := by simp [Cell.stretch]
  have hat : g_at w a1 (.inl (tp, n1, g_cp f g sp dp n)) ((T.setVm vm').setCell a1 (copied cs cd (iI sp) (iI dp) (iI n))).heap := by
    obtain ⟨f1, f2, f3, -⟩ := Cell.storeRun_facts cd dp (cs.stretch sp n)
    refine ⟨_, heapAt_setCell_self _ hlt, ?_, ?_, ?_, fun j hj => ?_⟩
    · unfold copied
      rw [eS, eD, eN]
      exact Or.inl (f2.trans (d2.none hba))
    · unfold copied
      rw [eS, eD, eN, f1]
      exact d3
    · unfold copied
      rw [eS, eD, eN, f3]
      exact d4
    · unfold copied
      rw [eS, eD, eN, Cell.storeRun_get cd dp _ j (by rw [hsz, d4]; omega), hsz]
      show _ = some (g_cp f g sp dp n j)
      unfold g_cp
      split
      · next hj2 =>
        unfold Cell.stretch
        rw [List.getElem?_map, List.getElem?_range (by omega)]
        show some (cs.slots.getD (sp + (j - dp)) .null) = _
        rw [hget _ (by omega)]
      · exact d5 j hj
  obtain ⟨t', a9, b9⟩ := kk _ rfl p e R s m args below meth c ((T.setVm vm').setCell a1 (copied cs cd (iI sp) (iI dp) (iI n))).heap _ cells slots mcT msT lsA F B ⟨h.1.up (by simpa using hat) (fun _ => hba) (fun q hq hne => by rw [heapAt_setCell_ne _ (Ne.symm hne)]; show T.heap[q]? = _; rw [hT]), ⟨by
      rw [size_setCell]
      show s.heap.size ≤ T.heap.size
      rw [hT]
      exact h.2.1, fun q q1 q2 => by
      rw [heapAt_setCell_ne _ (Ne.symm (fun e9 => q2 (by rw [e9]; exact hba)))]
      show T.heap[q]? = _
      rw [hT]
      exact h.2.2.1 q q1 q2, fun q hq => by
      rcases List.mem_append.mp hq with z | z
      · exact h.2.2.2 q z
      · obtain ⟨y, -, rfl⟩ := List.mem_map.mp z
        exact hba⟩⟩ hl _ rfl X'
  exact ⟨t', step t' a9, b9⟩
end GN1
