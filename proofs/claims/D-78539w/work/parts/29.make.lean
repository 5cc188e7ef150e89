/-! rows of the judgement: new X() of the JDK's own exceptions, arrays of arrays, getClass -/
set_option maxRecDepth 100000
/-- the words of 'new X()' are in the tables -/
theorem g_at0_of {L : List Cond} (ps : List Nat) (hp : L = ps.filterMap (fun i => lw_tbl[i]?)) : ∀ x ∈ L, x ∈ lw_tbl := by
  intro x hx
  rw [hp] at hx
  obtain ⟨i, -, hi⟩ := List.mem_filterMap.mp hx
  exact List.mem_of_getElem? hi
/-- what is said of 'new X()' at index ic of SharedSheet's file -/
def g_t0 (cls : String) (names : List String) (ic : Nat) : Prop := Bundle.fit cls = true ∧ (∀ n ∈ names, Bundle.fit n = true) ∧ (vx_at0 "SharedSheet" ic cls names).all vx_ot = true ∧ (∀ x ∈ vx_at0 "SharedSheet" ic cls names, x ∈ lw_all ∨ ∃ C T, x = .castable C T ∧ x ∈ lw_tbl ∨ (∃ y, x = .declares y ∧ x ∈ lw_tbl))
theorem g_t0_in {w : g_W} {s : State} {args : Array Value} {L : List Cond} (hts : ∀ x ∈ lw_all, x.before args s = true) (hK : g_K w s) (h : ∀ x ∈ L, x ∈ lw_all ∨ ∃ C T, x = .castable C T ∧ x ∈ lw_tbl ∨ (∃ y, x = .declares y ∧ x ∈ lw_tbl)) : ∀ x ∈ L, x.before args s = true := by
  intro x hx
  rcases h x hx with h1 | ⟨C, T, ⟨rfl, h2⟩ | ⟨y, rfl, h2⟩⟩
  · exact hts x h1
  · exact va_Nw.use rfl (hK.2.1.2.2.1 _ _ h2)
  · exact va_Nw.use rfl (hK.2.1.2.2.2.1 _ h2)
section GT1
variable {w : g_W} {l : Launch} {M : g_M} {d mc ms pc : Nat} {ls : g_L} {st : List Value} {G : g_H} {Q : g_Q}
/-- new X(), up to the throw: the cell is made, and forgotten -/
theorem gr_throw0 {cls : String} {names : List String} {ik ic : Nat} (ho : M.1.cls = "SharedSheet") (h0 : g_t0 cls names ic) (hk : Cond.classLink M.1.cls ik cls ∈ lw_all) (hini : Cond.initialized cls ∈ lw_all) (d0 : decode M.2.1 pc = .ok (.new ik, 3)) (d3 : decode M.2.1 (pc + 3) = .ok (.dup, 1)) (d4 : decode M.2.1 (pc + 4) = .ok (.invokespecial ic, 3)) (d7 : decode M.2.1 (pc + 7) = .ok (.athrow, 1)) (hfr : names.length + 3 < d) (hnl : names.length ≤ 4) (h8 : Nat.ble (st.map Value.category).sum 8 = true) (h1 : 1 ≤ mc) (h6 : 6 ≤ ms)
    (kk : ∀ q : Nat, g_RX w l M d (mc - 1) (ms - 6) (pc + 7) ls G Q cls q) : g_RF w l M d mc ms pc ls st G Q := by
  intro p e R s m args below meth c H locs cells slots mcT msT lsA F B hG hl
  obtain ⟨b1, b2, b3, b4⟩ := B
  have hrm := F.rm
  have h8' : (st.map fun v => v.category).sum ≤ 8 := Nat.le_of_ble_eq_true h8
  obtain ⟨hcls, hnames, hot, hin⟩ := h0
  have hown : s.vm.findClass "SharedSheet" = some m.cls := by rw [← ho]; exact F.own
  have hat := g_t0_in F.ts F.K hin
  have hk1 : (Cond.classLink "SharedSheet" ik cls).before args s = true := by rw [← ho]; exact F.ts _ hk
  have hini1 := F.ts _ hini
  have hot' : ∀ x ∈ vx_at0 "SharedSheet" ic cls names, vx_ot x = true := List.all_eq_true.mp hot
  intro T hT X
  subst hT
  have htr : e.platform.stackTraces = false := (show e.platform.stackTraces = l.stackTraces by rw [X.admits.platform]).trans F.tr
  have Y := vx_rebase X (R' := { frames := R.frames, locals := R.locals, cells := 1, slots := 6 }) (Nat.le_refl _) (Nat.le_refl _) (by show cells + 1 ≤ R.cells; omega) (by show slots + 6 ≤ R.slots; omega)
  obtain ⟨s', hA'⟩ : ∃ z, z = (T.setVm s.vm).setFrames (.invoking m args :: below) := ⟨_, rfl⟩
  rw [← hA'] at Y
  have hvm : s'.vm = s.vm := by rw [hA']; rfl
  have hhp : s'.heap = T.heap := by rw [hA']; rfl
  have hW0 : s.WarmedH s'.vm := by rw [hvm]; exact State.WarmedH.refl s
  have hat' : ∀ x ∈ vx_at0 "SharedSheet" ic cls names, x.before args s' = true := fun x hx => vx_ot_at hW0 hvm.symm (hot' x hx) (hat x hx)
  have hk' : (Cond.classLink "SharedSheet" ik cls).before args s' = true := vx_ot_at hW0 hvm.symm rfl hk1
  have hini' : (Cond.initialized cls).before args s' = true := vx_ot_at hW0 hvm.symm rfl hini1
  have hU' : vx_Zq Bundle.tN "UNASSIGNED_STACK" Bundle.steD (g_A w) s' s'.heap := by rw [hhp]; exact vx_Zq.moved hW0.alike (F.S.2.1.kept hG.2.2.1)
  have hN' : vx_Zq Bundle.tN "SUPPRESSED_SENTINEL" Bundle.listD (g_A w) s' s'.heap := by rw [hhp]; exact vx_Zq.moved hW0.alike (F.S.2.2.kept hG.2.2.1)
  have h : ∀ x ∈ Bundle.ownAtoms0 "SharedSheet" ic cls names, x.before args s' = true := vx_own hat' (vx_isRefq hU'.1) (vx_isRefq hN'.1) hU'.2.word hN'.2.word
  have hown' : s'.vm.findClass "SharedSheet" = some m.cls := by rw [hvm]; exact hown
  have hins : (Cond.instantiable cls 6).before args s' = true := h _ (by simp [Bundle.ownAtoms0])
  obtain ⟨vm₁, cX, kX, hfX, hkX, -, -, X₁, st1⟩ := Y.newCold F.1 (own := "SharedSheet") (C := cls) (index := ik) (n := 6) hown' hk' hins hini'
    (g := F0 m pc lsA st) rfl (by rw [F.2.1]; exact d0) (Nat.le_refl _) (Nat.le_refl _)
  generalize hT1 : (T.setVm vm₁).pushCell { cls := cX, slots := kX.instanceTypes.map defaultValue, vm := .none } = T1 at X₁ st1
  have hcat : (Value.ref T.heap.size).category = 1 := rfl
  have hcellA : T1.heap[T.heap.size]? = some (freshCell cX kX) := by rw [← hT1]; exact State.heap_pushCell_size _ _
  have d3' : decode c.code (pc + 3) = .ok (.dup, 1) := by rw [F.2.1]; exact d3
  obtain ⟨V, ce, L, Z, hL, hlt, hcl9, hvm9, stp⟩ := vx_ctorMade0 X₁ F.1 htr (own := "SharedSheet") (cls := cls) (names := names) (ic := ic) hown' hcls hnames h (fun x hx => nomatch hx) hfX hkX hcellA (by rw [hhp]; exact Nat.le_refl _)
    (g := { method := m, pc := pc + 4, locals := lsA, stack := .ref T.heap.size :: .ref T.heap.size :: st, locked := none }) rfl (by show lsA.size = _; rw [hl.1, F.2.2.1]) (rest := st) rfl
    (by rw [F.2.1]; exact d4) (by show names.length + 3 < R.frames; omega) (by simp only [List.map_cons, List.sum_cons, hcat]; show _ ≤ R.locals; omega)
  have Z0 := Stand.forget (locs := []) Z (fun y hy => by rw [hL y hy, hhp]; exact Nat.le_refl _)
  obtain ⟨f1, f2⟩ := vx_frame Z0.same
  rw [hhp] at f1 f2
  have hh : (V.setCell T.heap.size ce).heap[T.heap.size]? = some ce := heapAt_setCell_self (s := V) ce hlt
  subst hA'
  have X5 := vx_back9 X Y Z0
  have X6 : Stand p l e R s m args below meth c (V.setCell T.heap.size ce) locs (cells + 1) (slots + 6) := { X5 with same := X5.same.mono (by omega) (by omega) }
  have k9 := vx_athrow (R := R) (cells := cells + 1) (slots := slots + 6) F.1 F.2.1 d7 (kk T.heap.size p e R s m args below meth c (V.setCell T.heap.size ce).heap locs (cells + 1) (slots + 6) mcT msT lsA st F ⟨by omega, b2, by omega, b4⟩
    ⟨hG.1.kept (fun q hq => f2 q hq (fun z hz => nomatch hz)), ⟨Nat.le_trans hG.2.1 f1, fun q q1 q2 => (f2 q (Nat.lt_of_lt_of_le q1 hG.2.1) (fun z hz => nomatch hz)).trans (hG.2.2.1 q q1 q2), hG.2.2.2⟩⟩ hl ⟨ce, hh, hvm9, by rw [hcl9, ← hvm]; exact hfX⟩)
  obtain ⟨t, a1, b1⟩ := k9 _ rfl X6
  refine ⟨t, st1 _ ?_, b1⟩
  show Steps p.tables e below (T1.setTop { method := m, pc := pc + 3, locals := lsA, stack := .ref T.heap.size :: st, locked := none }) _
  jvm_step X₁.here [X₁.here.top, F.1, d3', Value.category]
  exact stp _ a1
/-- getClass of an Object[] -/
theorem gr_getC {idx a n : Nat} {t : g_T} {f : Nat → Value} (hd : decode M.2.1 pc = .ok (.invokevirtual idx, 3)) (hlink : Cond.methodLink M.1.cls idx ⟨"java/lang/Object", "getClass", "()Ljava/lang/Class;"⟩ ∈ lw_all) (hG : G a = some (t, .inl (4, n, f))) (h8 : Nat.ble (st.map Value.category).sum 8 = true) (hd0 : 0 < d) (kk : g_RF w l M d mc ms (pc + 3) ls (.ref (g_c w g_mir) :: st) G Q) : g_RF w l M d mc ms pc ls (.ref a :: st) G Q := by
  intro p e R s m args below meth c H locs cells slots mcT msT lsA F B h hl
  have hrm := F.rm
  have h8' : (st.map fun v => v.category).sum ≤ 8 := Nat.le_of_ble_eq_true h8
  obtain ⟨cell, h1, h2, h3, -⟩ := (h.1 a t _ hG).1
  have hnm := g_nm F (tp := 4) (ty := .object "java/lang/Object") rfl
  exact va_getC F.1 F.2.1 (F.2.2.1.trans hl.1.symm) F.own (F.ts _ hlink) (va_Nw.use rfl (F.K.2.1.2.2.2.1 _ q2425)) (F.ts _ q2424) (F.ts _ q359) (F.ts _ q386) F.Li.2 ⟨cell, h1, h2.known.2, by rw [h3]; exact hnm⟩ (by omega) (by omega) hd (kk p e R s m args below meth c H locs cells slots mcT msT lsA F B h hl)
/-- an array of arrays -/
def g_m2 (G : g_H) (q n tO tI k : Nat) (t : g_T) (ti : Nat → g_T) (v : Value) : g_H := fun x => if x = q then some (t, .inl (tO, n, fun j => .ref (q + 1 + j))) else if q < x ∧ x < q + 1 + n then some (ti (x - (q + 1)), .inl (tI, k, fun _ => v)) else G x
theorem gr_multi {idx tO tI : Nat} {ty : FieldType} {v : Value} (t : g_T) (ti : Nat → g_T) (n k : Nat) {zn zk : Int} (hd : decode M.2.1 pc = .ok (.multianewarray idx 2, 4)) (htO : g_ft[tO]? = some (.array ty)) (htI : g_ft[tI]? = some ty) (hlink : Cond.classLink M.1.cls idx ("[" ++ (FieldType.array ty).toString) ∈ lw_all) (hov : Cond.arrayOver (.array ty) ∈ lw_tbl) (harr : Cond.arrayClass ty ∈ lw_all) (hnm : "[" ++ ty.toString = (FieldType.array ty).toString) (hzn : zn = n) (hzk : zk = k) (hn : n ≤ 1000) (hk : k ≤ 1000) (hb : componentBytes ty ≤ 4) (hv : defaultValue ty = v) (hdf : fits ty (defaultValue ty) = true) (hdd : (defaultValue ty).isDefault = true) (h1 : 1 + n ≤ mc) (h2 : n + n * k ≤ ms)
    (kk : ∀ (q : Nat) (G1 : g_H), (∀ j, q ≤ j → G j = none) → G1 = g_m2 G q n tO tI k t ti v → g_RF w l M d (mc - (1 + n)) (ms - (n + n * k)) (pc + 4) ls (.ref q :: st) G1 Q) : g_RF w l M d mc ms pc ls (.int (iI zk) :: .int (iI zn) :: st) G Q := by
  intro p e R s m args below meth c H locs cells slots mcT msT lsA F B h hl
  subst hzn; subst hzk
  obtain ⟨b1, b2, b3, b4⟩ := B
  have en : (iI (n : Int)).toNatClampNeg = n := by rw [iI_nI]; exact nI_clamp (by omega)
  have ek : (iI (k : Int)).toNatClampNeg = k := by rw [iI_nI]; exact nI_clamp (by omega)
  have hbk : k * componentBytes ty ≤ 1000 * 4 := Nat.mul_le_mul hk hb
  intro T hT X
  obtain ⟨vm₁, cA, comp, hW, f1, f2, -, -, X1, stp⟩ := X.multianewarray2F F.1 F.own (F.ts _ hlink) (show (Cond.arrayOver (.array ty)).before args s = true from F.K.2.1.2.2.2.2.2.2.2 _ hov) (F.ts _ harr) (g := F0 m pc lsA (.int (iI k) :: .int (iI n) :: st)) rfl (by rw [F.2.1]; exact hd) (rest := st) rfl (by rw [iI_nI]; exact nI_pos (by omega)) (by rw [iI_nI]; exact nI_pos (by omega)) (by rw [en]; omega) (by rw [ek]; omega) (by rw [ek]; omega) hdf hdd (by rw [en]; omega) (by rw [en, ek]; omega)
  rw [en, ek] at X1 stp
  have hcA : cA = w.2.1 tO := Option.some.inj (f1.symm.trans (g_nm F htO))
  have hcomp : comp = w.2.1 tI := by
    have := g_nm F htI
    rw [hnm] at this
    exact Option.some.inj (f2.symm.trans this)
  have hhv : (T.setVm vm₁).heap = H := hT
  obtain ⟨z1, z2, -, -⟩ := Jvm.Free.Multi.fill_facts (T.setVm vm₁) cA comp n k (defaultValue ty) n
  obtain ⟨o1, o2, o3⟩ := Jvm.Free.Multi.outerC_facts cA n (T.setVm vm₁).heap.size n
  have hold : ∀ q : Nat, q < H.size → (Jvm.Free.Multi.fill (T.setVm vm₁) cA comp n k (defaultValue ty) n).heap[q]? = H[q]? := fun q hq => by
    rw [Jvm.Free.Multi.fill_old (T.setVm vm₁) cA comp n k (defaultValue ty) (by rw [hhv]; exact hq) n, hhv]
  have hinn := Jvm.Free.Multi.fill_inner (T.setVm vm₁) cA comp n k (defaultValue ty) n
  have hslot := Jvm.Free.Multi.outerC_slot cA n (T.setVm vm₁).heap.size n
  generalize Jvm.Free.Multi.fill (T.setVm vm₁) cA comp n k (defaultValue ty) n = T2 at X1 stp z1 z2 hold hinn
  generalize Jvm.Free.Multi.outerC cA n (T.setVm vm₁).heap.size n = oc at z2 o1 o2 o3 hslot
  rw [hhv] at z1 z2 hinn hslot
  have hbH : g_b w ≤ H.size := Nat.le_trans F.bs h.2.1
  have hR : g_R w (g_m2 G H.size n tO tI k t ti v) T2.heap := by
    intro a ta ea ha
    unfold g_m2 at ha
    split at ha
    · next e1 =>
      cases ha
      subst e1
      exact ⟨⟨oc, z2, Or.inl o2, o1.trans hcA, o3, fun j hj => by rw [hslot j hj, if_pos hj]⟩, fun _ => hbH⟩
    · split at ha
      · next e1 e2 =>
        cases ha
        have hj : a - (H.size + 1) < n := by omega
        have h7 := hinn (a - (H.size + 1)) hj
        rw [show H.size + 1 + (a - (H.size + 1)) = a by omega] at h7
        exact ⟨⟨_, h7, Or.inl rfl, hcomp, by simp [Jvm.Free.Multi.innerC], fun j hj => by simp only [Jvm.Free.Multi.innerC]; rw [Array.getElem?_replicate, if_pos hj, hv]⟩, fun _ => by omega⟩
      · have h7 := h.1 a ta ea ha
        exact ⟨h7.1.kept (hold a h7.1.lt), h7.2⟩
  obtain ⟨t', a9, b9⟩ := kk H.size _ (fun j hj => h.1.fresh hj) rfl p e R s m args below meth c T2.heap locs (cells + 1 + n) (slots + n + n * k) mcT msT lsA F ⟨by omega, b2, by omega, b4⟩ ⟨hR, ⟨Nat.le_trans h.2.1 (by omega), fun q q1 q2 => (hold q (Nat.lt_of_lt_of_le q1 h.2.1)).trans (h.2.2.1 q q1 q2), h.2.2.2⟩⟩ hl T2 rfl X1
  refine ⟨t', stp t' ?_, b9⟩
  have eT : T.heap.size = H.size := by rw [hT]
  rw [eT]
  exact a9
end GT1
theorem t0_ix : g_t0 "java/lang/IndexOutOfBoundsException" ["java/lang/RuntimeException", "java/lang/Exception"] 42 := by
  refine ⟨by decide +kernel, by decide +kernel, by decide +kernel, ?_⟩
  have key : ∀ x ∈ Bundle.ownAtoms0 "SharedSheet" 42 "java/lang/IndexOutOfBoundsException" ["java/lang/RuntimeException", "java/lang/Exception"], vx_no x = true → (x ∈ lw_all ∨ ∃ C T, x = .castable C T ∧ x ∈ lw_tbl ∨ (∃ y, x = .declares y ∧ x ∈ lw_tbl)) := by
    refine List.forall_mem_append.mpr ⟨List.forall_mem_append.mpr ⟨?_, List.forall_mem_append.mpr ⟨?_, List.forall_mem_append.mpr ⟨?_, ?_⟩⟩⟩, ?_⟩
    · refine List.forall_mem_cons.mpr ⟨fun _ => Or.inl q107, ?_⟩
      refine List.forall_mem_cons.mpr ⟨fun _ => Or.inl q546, ?_⟩
      refine List.forall_mem_cons.mpr ⟨fun _ => Or.inl q555, ?_⟩
      refine List.forall_mem_cons.mpr ⟨fun _ => Or.inl q563, ?_⟩
      refine List.forall_mem_cons.mpr ⟨fun _ => Or.inl q566, ?_⟩
      refine List.forall_mem_cons.mpr ⟨fun _ => Or.inl q568, ?_⟩
      refine List.forall_mem_cons.mpr ⟨fun _ => Or.inl q547, ?_⟩
      refine List.forall_mem_cons.mpr ⟨fun _ => Or.inl q548, ?_⟩
      refine List.forall_mem_cons.mpr ⟨fun _ => Or.inl q135, ?_⟩
      refine List.forall_mem_cons.mpr ⟨fun _ => Or.inl q136, ?_⟩
      refine List.forall_mem_cons.mpr ⟨fun _ => Or.inl q549, ?_⟩
      refine List.forall_mem_cons.mpr ⟨fun _ => Or.inl q554, ?_⟩
      refine List.forall_mem_cons.mpr ⟨fun _ => Or.inl q564, ?_⟩
      refine List.forall_mem_cons.mpr ⟨fun _ => Or.inl q584, ?_⟩
      refine List.forall_mem_cons.mpr ⟨fun _ => Or.inl q536, ?_⟩
      refine List.forall_mem_cons.mpr ⟨fun _ => Or.inl q585, ?_⟩
      refine List.forall_mem_cons.mpr ⟨fun _ => Or.inl q538, ?_⟩
      refine List.forall_mem_cons.mpr ⟨fun _ => Or.inl q586, ?_⟩
      refine List.forall_mem_cons.mpr ⟨fun _ => Or.inl q540, ?_⟩
      refine List.forall_mem_cons.mpr ⟨fun _ => Or.inl q550, ?_⟩
      refine List.forall_mem_cons.mpr ⟨fun q => absurd q (by decide +kernel), ?_⟩
      refine List.forall_mem_cons.mpr ⟨fun _ => Or.inl q552, ?_⟩
      refine List.forall_mem_cons.mpr ⟨fun q => absurd q (by decide +kernel), ?_⟩
      refine List.forall_mem_cons.mpr ⟨fun _ => Or.inl q542, ?_⟩
      exact fun _ h => absurd h List.not_mem_nil
    · refine List.forall_mem_cons.mpr ⟨fun _ => Or.inl q1446, ?_⟩
      refine List.forall_mem_cons.mpr ⟨fun _ => Or.inl q1447, ?_⟩
      refine List.forall_mem_cons.mpr ⟨fun _ => Or.inl q1448, ?_⟩
      refine List.forall_mem_cons.mpr ⟨fun _ => Or.inl q1449, ?_⟩
      refine List.forall_mem_cons.mpr ⟨fun _ => Or.inr ⟨"", "", Or.inr ⟨_, rfl, q527⟩⟩, ?_⟩
      exact fun _ h => absurd h List.not_mem_nil
    · refine List.forall_mem_cons.mpr ⟨fun _ => Or.inl q1449, ?_⟩
      refine List.forall_mem_cons.mpr ⟨fun _ => Or.inl q1450, ?_⟩
      refine List.forall_mem_cons.mpr ⟨fun _ => Or.inl q1451, ?_⟩
      refine List.forall_mem_cons.mpr ⟨fun _ => Or.inl q1452, ?_⟩
      refine List.forall_mem_cons.mpr ⟨fun _ => Or.inr ⟨"", "", Or.inr ⟨_, rfl, q529⟩⟩, ?_⟩
      exact fun _ h => absurd h List.not_mem_nil
    · refine List.forall_mem_cons.mpr ⟨fun _ => Or.inl q1452, ?_⟩
      refine List.forall_mem_cons.mpr ⟨fun _ => Or.inl q1453, ?_⟩
      refine List.forall_mem_cons.mpr ⟨fun _ => Or.inl q1454, ?_⟩
      refine List.forall_mem_cons.mpr ⟨fun _ => Or.inl q547, ?_⟩
      refine List.forall_mem_cons.mpr ⟨fun _ => Or.inr ⟨"", "", Or.inr ⟨_, rfl, q531⟩⟩, ?_⟩
      exact fun _ h => absurd h List.not_mem_nil
    · refine List.forall_mem_cons.mpr ⟨fun _ => Or.inl q1445, ?_⟩
      refine List.forall_mem_cons.mpr ⟨fun _ => Or.inl q1177, ?_⟩
      refine List.forall_mem_cons.mpr ⟨fun _ => Or.inr ⟨_, _, Or.inl ⟨rfl, q1178⟩⟩, ?_⟩
      refine List.forall_mem_cons.mpr ⟨fun _ => Or.inl q1179, ?_⟩
      refine List.forall_mem_cons.mpr ⟨fun _ => Or.inl q561, ?_⟩
      refine List.forall_mem_cons.mpr ⟨fun _ => Or.inl q1180, ?_⟩
      refine List.forall_mem_cons.mpr ⟨fun _ => Or.inl q1181, ?_⟩
      refine List.forall_mem_cons.mpr ⟨fun _ => Or.inl q1182, ?_⟩
      refine List.forall_mem_cons.mpr ⟨fun _ => Or.inl q1183, ?_⟩
      refine List.forall_mem_cons.mpr ⟨fun q => absurd q (by decide +kernel), ?_⟩
      refine List.forall_mem_cons.mpr ⟨fun q => absurd q (by decide +kernel), ?_⟩
      refine List.forall_mem_cons.mpr ⟨fun _ => Or.inl q545, ?_⟩
      refine List.forall_mem_cons.mpr ⟨fun _ => Or.inl q544, ?_⟩
      refine List.forall_mem_cons.mpr ⟨fun _ => Or.inl q1184, ?_⟩
      exact fun _ h => absurd h List.not_mem_nil
  intro x hx
  obtain ⟨h1, h2⟩ := List.mem_filter.mp hx
  exact key x h1 h2
theorem t0_ar : g_t0 "java/lang/IllegalArgumentException" ["java/lang/RuntimeException", "java/lang/Exception"] 45 := by
  refine ⟨by decide +kernel, by decide +kernel, by decide +kernel, ?_⟩
  have key : ∀ x ∈ Bundle.ownAtoms0 "SharedSheet" 45 "java/lang/IllegalArgumentException" ["java/lang/RuntimeException", "java/lang/Exception"], vx_no x = true → (x ∈ lw_all ∨ ∃ C T, x = .castable C T ∧ x ∈ lw_tbl ∨ (∃ y, x = .declares y ∧ x ∈ lw_tbl)) := by
    refine List.forall_mem_append.mpr ⟨List.forall_mem_append.mpr ⟨?_, List.forall_mem_append.mpr ⟨?_, List.forall_mem_append.mpr ⟨?_, ?_⟩⟩⟩, ?_⟩
    · refine List.forall_mem_cons.mpr ⟨fun _ => Or.inl q107, ?_⟩
      refine List.forall_mem_cons.mpr ⟨fun _ => Or.inl q546, ?_⟩
      refine List.forall_mem_cons.mpr ⟨fun _ => Or.inl q555, ?_⟩
      refine List.forall_mem_cons.mpr ⟨fun _ => Or.inl q563, ?_⟩
      refine List.forall_mem_cons.mpr ⟨fun _ => Or.inl q566, ?_⟩
      refine List.forall_mem_cons.mpr ⟨fun _ => Or.inl q568, ?_⟩
      refine List.forall_mem_cons.mpr ⟨fun _ => Or.inl q547, ?_⟩
      refine List.forall_mem_cons.mpr ⟨fun _ => Or.inl q548, ?_⟩
      refine List.forall_mem_cons.mpr ⟨fun _ => Or.inl q135, ?_⟩
      refine List.forall_mem_cons.mpr ⟨fun _ => Or.inl q136, ?_⟩
      refine List.forall_mem_cons.mpr ⟨fun _ => Or.inl q549, ?_⟩
      refine List.forall_mem_cons.mpr ⟨fun _ => Or.inl q554, ?_⟩
      refine List.forall_mem_cons.mpr ⟨fun _ => Or.inl q564, ?_⟩
      refine List.forall_mem_cons.mpr ⟨fun _ => Or.inl q584, ?_⟩
      refine List.forall_mem_cons.mpr ⟨fun _ => Or.inl q536, ?_⟩
      refine List.forall_mem_cons.mpr ⟨fun _ => Or.inl q585, ?_⟩
      refine List.forall_mem_cons.mpr ⟨fun _ => Or.inl q538, ?_⟩
      refine List.forall_mem_cons.mpr ⟨fun _ => Or.inl q586, ?_⟩
      refine List.forall_mem_cons.mpr ⟨fun _ => Or.inl q540, ?_⟩
      refine List.forall_mem_cons.mpr ⟨fun _ => Or.inl q550, ?_⟩
      refine List.forall_mem_cons.mpr ⟨fun q => absurd q (by decide +kernel), ?_⟩
      refine List.forall_mem_cons.mpr ⟨fun _ => Or.inl q552, ?_⟩
      refine List.forall_mem_cons.mpr ⟨fun q => absurd q (by decide +kernel), ?_⟩
      refine List.forall_mem_cons.mpr ⟨fun _ => Or.inl q542, ?_⟩
      exact fun _ h => absurd h List.not_mem_nil
    · refine List.forall_mem_cons.mpr ⟨fun _ => Or.inl q1579, ?_⟩
      refine List.forall_mem_cons.mpr ⟨fun _ => Or.inl q1580, ?_⟩
      refine List.forall_mem_cons.mpr ⟨fun _ => Or.inl q1581, ?_⟩
      refine List.forall_mem_cons.mpr ⟨fun _ => Or.inl q1449, ?_⟩
      refine List.forall_mem_cons.mpr ⟨fun _ => Or.inr ⟨"", "", Or.inr ⟨_, rfl, q527⟩⟩, ?_⟩
      exact fun _ h => absurd h List.not_mem_nil
    · refine List.forall_mem_cons.mpr ⟨fun _ => Or.inl q1449, ?_⟩
      refine List.forall_mem_cons.mpr ⟨fun _ => Or.inl q1450, ?_⟩
      refine List.forall_mem_cons.mpr ⟨fun _ => Or.inl q1451, ?_⟩
      refine List.forall_mem_cons.mpr ⟨fun _ => Or.inl q1452, ?_⟩
      refine List.forall_mem_cons.mpr ⟨fun _ => Or.inr ⟨"", "", Or.inr ⟨_, rfl, q529⟩⟩, ?_⟩
      exact fun _ h => absurd h List.not_mem_nil
    · refine List.forall_mem_cons.mpr ⟨fun _ => Or.inl q1452, ?_⟩
      refine List.forall_mem_cons.mpr ⟨fun _ => Or.inl q1453, ?_⟩
      refine List.forall_mem_cons.mpr ⟨fun _ => Or.inl q1454, ?_⟩
      refine List.forall_mem_cons.mpr ⟨fun _ => Or.inl q547, ?_⟩
      refine List.forall_mem_cons.mpr ⟨fun _ => Or.inr ⟨"", "", Or.inr ⟨_, rfl, q531⟩⟩, ?_⟩
      exact fun _ h => absurd h List.not_mem_nil
    · refine List.forall_mem_cons.mpr ⟨fun _ => Or.inl q1578, ?_⟩
      refine List.forall_mem_cons.mpr ⟨fun _ => Or.inl q1018, ?_⟩
      refine List.forall_mem_cons.mpr ⟨fun _ => Or.inr ⟨_, _, Or.inl ⟨rfl, q1019⟩⟩, ?_⟩
      refine List.forall_mem_cons.mpr ⟨fun _ => Or.inl q1020, ?_⟩
      refine List.forall_mem_cons.mpr ⟨fun _ => Or.inl q560, ?_⟩
      refine List.forall_mem_cons.mpr ⟨fun _ => Or.inl q1021, ?_⟩
      refine List.forall_mem_cons.mpr ⟨fun _ => Or.inl q1022, ?_⟩
      refine List.forall_mem_cons.mpr ⟨fun _ => Or.inl q1023, ?_⟩
      refine List.forall_mem_cons.mpr ⟨fun _ => Or.inl q1024, ?_⟩
      refine List.forall_mem_cons.mpr ⟨fun q => absurd q (by decide +kernel), ?_⟩
      refine List.forall_mem_cons.mpr ⟨fun q => absurd q (by decide +kernel), ?_⟩
      refine List.forall_mem_cons.mpr ⟨fun _ => Or.inl q545, ?_⟩
      refine List.forall_mem_cons.mpr ⟨fun _ => Or.inl q544, ?_⟩
      refine List.forall_mem_cons.mpr ⟨fun _ => Or.inl q1025, ?_⟩
      exact fun _ h => absurd h List.not_mem_nil
  intro x hx
  obtain ⟨h1, h2⟩ := List.mem_filter.mp hx
  exact key x h1 h2
theorem t0_st : g_t0 "java/lang/IllegalStateException" ["java/lang/RuntimeException", "java/lang/Exception"] 48 := by
  refine ⟨by decide +kernel, by decide +kernel, by decide +kernel, ?_⟩
  have key : ∀ x ∈ Bundle.ownAtoms0 "SharedSheet" 48 "java/lang/IllegalStateException" ["java/lang/RuntimeException", "java/lang/Exception"], vx_no x = true → (x ∈ lw_all ∨ ∃ C T, x = .castable C T ∧ x ∈ lw_tbl ∨ (∃ y, x = .declares y ∧ x ∈ lw_tbl)) := by
    refine List.forall_mem_append.mpr ⟨List.forall_mem_append.mpr ⟨?_, List.forall_mem_append.mpr ⟨?_, List.forall_mem_append.mpr ⟨?_, ?_⟩⟩⟩, ?_⟩
    · refine List.forall_mem_cons.mpr ⟨fun _ => Or.inl q107, ?_⟩
      refine List.forall_mem_cons.mpr ⟨fun _ => Or.inl q546, ?_⟩
      refine List.forall_mem_cons.mpr ⟨fun _ => Or.inl q555, ?_⟩
      refine List.forall_mem_cons.mpr ⟨fun _ => Or.inl q563, ?_⟩
      refine List.forall_mem_cons.mpr ⟨fun _ => Or.inl q566, ?_⟩
      refine List.forall_mem_cons.mpr ⟨fun _ => Or.inl q568, ?_⟩
      refine List.forall_mem_cons.mpr ⟨fun _ => Or.inl q547, ?_⟩
      refine List.forall_mem_cons.mpr ⟨fun _ => Or.inl q548, ?_⟩
      refine List.forall_mem_cons.mpr ⟨fun _ => Or.inl q135, ?_⟩
      refine List.forall_mem_cons.mpr ⟨fun _ => Or.inl q136, ?_⟩
      refine List.forall_mem_cons.mpr ⟨fun _ => Or.inl q549, ?_⟩
      refine List.forall_mem_cons.mpr ⟨fun _ => Or.inl q554, ?_⟩
      refine List.forall_mem_cons.mpr ⟨fun _ => Or.inl q564, ?_⟩
      refine List.forall_mem_cons.mpr ⟨fun _ => Or.inl q584, ?_⟩
      refine List.forall_mem_cons.mpr ⟨fun _ => Or.inl q536, ?_⟩
      refine List.forall_mem_cons.mpr ⟨fun _ => Or.inl q585, ?_⟩
      refine List.forall_mem_cons.mpr ⟨fun _ => Or.inl q538, ?_⟩
      refine List.forall_mem_cons.mpr ⟨fun _ => Or.inl q586, ?_⟩
      refine List.forall_mem_cons.mpr ⟨fun _ => Or.inl q540, ?_⟩
      refine List.forall_mem_cons.mpr ⟨fun _ => Or.inl q550, ?_⟩
      refine List.forall_mem_cons.mpr ⟨fun q => absurd q (by decide +kernel), ?_⟩
      refine List.forall_mem_cons.mpr ⟨fun _ => Or.inl q552, ?_⟩
      refine List.forall_mem_cons.mpr ⟨fun q => absurd q (by decide +kernel), ?_⟩
      refine List.forall_mem_cons.mpr ⟨fun _ => Or.inl q542, ?_⟩
      exact fun _ h => absurd h List.not_mem_nil
    · refine List.forall_mem_cons.mpr ⟨fun _ => Or.inl q1470, ?_⟩
      refine List.forall_mem_cons.mpr ⟨fun _ => Or.inl q1471, ?_⟩
      refine List.forall_mem_cons.mpr ⟨fun _ => Or.inl q1472, ?_⟩
      refine List.forall_mem_cons.mpr ⟨fun _ => Or.inl q1449, ?_⟩
      refine List.forall_mem_cons.mpr ⟨fun _ => Or.inr ⟨"", "", Or.inr ⟨_, rfl, q527⟩⟩, ?_⟩
      exact fun _ h => absurd h List.not_mem_nil
    · refine List.forall_mem_cons.mpr ⟨fun _ => Or.inl q1449, ?_⟩
      refine List.forall_mem_cons.mpr ⟨fun _ => Or.inl q1450, ?_⟩
      refine List.forall_mem_cons.mpr ⟨fun _ => Or.inl q1451, ?_⟩
      refine List.forall_mem_cons.mpr ⟨fun _ => Or.inl q1452, ?_⟩
      refine List.forall_mem_cons.mpr ⟨fun _ => Or.inr ⟨"", "", Or.inr ⟨_, rfl, q529⟩⟩, ?_⟩
      exact fun _ h => absurd h List.not_mem_nil
    · refine List.forall_mem_cons.mpr ⟨fun _ => Or.inl q1452, ?_⟩
      refine List.forall_mem_cons.mpr ⟨fun _ => Or.inl q1453, ?_⟩
      refine List.forall_mem_cons.mpr ⟨fun _ => Or.inl q1454, ?_⟩
      refine List.forall_mem_cons.mpr ⟨fun _ => Or.inl q547, ?_⟩
      refine List.forall_mem_cons.mpr ⟨fun _ => Or.inr ⟨"", "", Or.inr ⟨_, rfl, q531⟩⟩, ?_⟩
      exact fun _ h => absurd h List.not_mem_nil
    · refine List.forall_mem_cons.mpr ⟨fun _ => Or.inl q1469, ?_⟩
      refine List.forall_mem_cons.mpr ⟨fun _ => Or.inl q525, ?_⟩
      refine List.forall_mem_cons.mpr ⟨fun _ => Or.inr ⟨_, _, Or.inl ⟨rfl, q526⟩⟩, ?_⟩
      refine List.forall_mem_cons.mpr ⟨fun _ => Or.inl q533, ?_⟩
      refine List.forall_mem_cons.mpr ⟨fun _ => Or.inl q534, ?_⟩
      refine List.forall_mem_cons.mpr ⟨fun _ => Or.inl q535, ?_⟩
      refine List.forall_mem_cons.mpr ⟨fun _ => Or.inl q537, ?_⟩
      refine List.forall_mem_cons.mpr ⟨fun _ => Or.inl q539, ?_⟩
      refine List.forall_mem_cons.mpr ⟨fun _ => Or.inl q541, ?_⟩
      refine List.forall_mem_cons.mpr ⟨fun q => absurd q (by decide +kernel), ?_⟩
      refine List.forall_mem_cons.mpr ⟨fun q => absurd q (by decide +kernel), ?_⟩
      refine List.forall_mem_cons.mpr ⟨fun _ => Or.inl q545, ?_⟩
      refine List.forall_mem_cons.mpr ⟨fun _ => Or.inl q544, ?_⟩
      refine List.forall_mem_cons.mpr ⟨fun _ => Or.inl q543, ?_⟩
      exact fun _ h => absurd h List.not_mem_nil
  intro x hx
  obtain ⟨h1, h2⟩ := List.mem_filter.mp hx
  exact key x h1 h2
