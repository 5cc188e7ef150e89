/-! rows of the judgement: instructions that leave the heap alone -/
set_option maxRecDepth 100000
section GR1
variable {w : g_W} {l : Launch} {M : g_M} {d mc ms pc : Nat} {ls : g_L} {st : List Value} {G : g_H} {Q : g_Q}
theorem gr_iconst {n : Int} {v : Int32} (hd : decode M.2.1 pc = .ok (.iconst n, 1)) (hv : Int32.ofInt n = v) (k : g_RF w l M d mc ms (pc + 1) ls (.int v :: st) G Q) : g_RF w l M d mc ms pc ls (st) G Q :=
  fun p e R s m args below meth c H locs cells slots mcT msT lsA F B h hl => lv_iconst F.1 F.2.1 hd hv (k p e R s m args below meth c H locs cells slots mcT msT lsA F B h hl)
theorem gr_bipush {n : Int} {v : Int32} (hd : decode M.2.1 pc = .ok (.bipush n, 2)) (hv : (Int8.ofInt n).toInt32 = v) (k : g_RF w l M d mc ms (pc + 2) ls (.int v :: st) G Q) : g_RF w l M d mc ms pc ls (st) G Q :=
  fun p e R s m args below meth c H locs cells slots mcT msT lsA F B h hl => lv_bipush F.1 F.2.1 hd hv (k p e R s m args below meth c H locs cells slots mcT msT lsA F B h hl)
theorem gr_sipush {n : Int} {v : Int32} (hd : decode M.2.1 pc = .ok (.sipush n, 3)) (hv : (Int16.ofInt n).toInt32 = v) (k : g_RF w l M d mc ms (pc + 3) ls (.int v :: st) G Q) : g_RF w l M d mc ms pc ls (st) G Q :=
  fun p e R s m args below meth c H locs cells slots mcT msT lsA F B h hl => lv_sipush F.1 F.2.1 hd hv (k p e R s m args below meth c H locs cells slots mcT msT lsA F B h hl)
theorem gr_lconst {n : Fin 2} {v : Int64} (hd : decode M.2.1 pc = .ok (.lconst n, 1)) (hv : Int64.ofNat (n : Nat) = v) (k : g_RF w l M d mc ms (pc + 1) ls (.long v :: st) G Q) : g_RF w l M d mc ms pc ls (st) G Q :=
  fun p e R s m args below meth c H locs cells slots mcT msT lsA F B h hl => lv_lconst F.1 F.2.1 hd hv (k p e R s m args below meth c H locs cells slots mcT msT lsA F B h hl)
theorem gr_aconst_null (hd : decode M.2.1 pc = .ok (.aconst_null, 1)) (k : g_RF w l M d mc ms (pc + 1) ls (.null :: st) G Q) : g_RF w l M d mc ms pc ls (st) G Q :=
  fun p e R s m args below meth c H locs cells slots mcT msT lsA F B h hl => lv_null F.1 F.2.1 hd  (k p e R s m args below meth c H locs cells slots mcT msT lsA F B h hl)
theorem gr_iload_n {k : Fin 4} {i : Nat} {x : Int32} (hd : decode M.2.1 pc = .ok (.iload_n k, 1)) (hi : (k : Nat) = i) (hv : g_lk ls i = some (.int x)) (k : g_RF w l M d mc ms (pc + 1) ls (.int x :: st) G Q) : g_RF w l M d mc ms pc ls (st) G Q :=
  fun p e R s m args below meth c H locs cells slots mcT msT lsA F B h hl => lv_iload_n F.1 F.2.1 hd hi (hl.2.2 _ _ hv) (k p e R s m args below meth c H locs cells slots mcT msT lsA F B h hl)
theorem gr_iload {i : Nat} {x : Int32} (hd : decode M.2.1 pc = .ok (.iload i, 2)) (hv : g_lk ls i = some (.int x)) (k : g_RF w l M d mc ms (pc + 2) ls (.int x :: st) G Q) : g_RF w l M d mc ms pc ls (st) G Q :=
  fun p e R s m args below meth c H locs cells slots mcT msT lsA F B h hl => lv_iload F.1 F.2.1 hd (hl.2.2 _ _ hv) (k p e R s m args below meth c H locs cells slots mcT msT lsA F B h hl)
theorem gr_aload_n {k : Fin 4} {i : Nat} {x : Nat} (hd : decode M.2.1 pc = .ok (.aload_n k, 1)) (hi : (k : Nat) = i) (hv : g_lk ls i = some (.ref x)) (k : g_RF w l M d mc ms (pc + 1) ls (.ref x :: st) G Q) : g_RF w l M d mc ms pc ls (st) G Q :=
  fun p e R s m args below meth c H locs cells slots mcT msT lsA F B h hl => lv_aload_n F.1 F.2.1 hd hi (hl.2.2 _ _ hv) (k p e R s m args below meth c H locs cells slots mcT msT lsA F B h hl)
theorem gr_aload {i : Nat} {x : Nat} (hd : decode M.2.1 pc = .ok (.aload i, 2)) (hv : g_lk ls i = some (.ref x)) (k : g_RF w l M d mc ms (pc + 2) ls (.ref x :: st) G Q) : g_RF w l M d mc ms pc ls (st) G Q :=
  fun p e R s m args below meth c H locs cells slots mcT msT lsA F B h hl => lv_aload F.1 F.2.1 hd (hl.2.2 _ _ hv) (k p e R s m args below meth c H locs cells slots mcT msT lsA F B h hl)
theorem gr_lload_n {k : Fin 4} {i : Nat} {x : Int64} (hd : decode M.2.1 pc = .ok (.lload_n k, 1)) (hi : (k : Nat) = i) (hv : g_lk ls i = some (.long x)) (k : g_RF w l M d mc ms (pc + 1) ls (.long x :: st) G Q) : g_RF w l M d mc ms pc ls (st) G Q :=
  fun p e R s m args below meth c H locs cells slots mcT msT lsA F B h hl => lv_lload_n F.1 F.2.1 hd hi (hl.2.2 _ _ hv) (k p e R s m args below meth c H locs cells slots mcT msT lsA F B h hl)
theorem gr_lload {i : Nat} {x : Int64} (hd : decode M.2.1 pc = .ok (.lload i, 2)) (hv : g_lk ls i = some (.long x)) (k : g_RF w l M d mc ms (pc + 2) ls (.long x :: st) G Q) : g_RF w l M d mc ms pc ls (st) G Q :=
  fun p e R s m args below meth c H locs cells slots mcT msT lsA F B h hl => lv_lload F.1 F.2.1 hd (hl.2.2 _ _ hv) (k p e R s m args below meth c H locs cells slots mcT msT lsA F B h hl)
theorem gr_aload_nN {k : Fin 4} {i : Nat} (hd : decode M.2.1 pc = .ok (.aload_n k, 1)) (hi : (k : Nat) = i) (hv : g_lk ls i = some .null) (k : g_RF w l M d mc ms (pc + 1) ls (.null :: st) G Q) : g_RF w l M d mc ms pc ls (st) G Q :=
  fun p e R s m args below meth c H locs cells slots mcT msT lsA F B h hl => lv_aload_nN F.1 F.2.1 hd hi (hl.2.2 _ _ hv) (k p e R s m args below meth c H locs cells slots mcT msT lsA F B h hl)
theorem gr_aloadN {i : Nat} (hd : decode M.2.1 pc = .ok (.aload i, 2)) (hv : g_lk ls i = some .null) (k : g_RF w l M d mc ms (pc + 2) ls (.null :: st) G Q) : g_RF w l M d mc ms pc ls (st) G Q :=
  fun p e R s m args below meth c H locs cells slots mcT msT lsA F B h hl => lv_aloadN F.1 F.2.1 hd (hl.2.2 _ _ hv) (k p e R s m args below meth c H locs cells slots mcT msT lsA F B h hl)
/-- no long lies just below slot i -/
def g_ncl (ls : g_L) (i : Nat) : Bool := match i with
  | 0 => true
  | j + 1 => match g_lk ls j with
    | some (.long _) => false
    | some (.double _) => false
    | _ => true
theorem g_ncl_of {ls : g_L} {i : Nat} (h : g_ncl ls i = true) : ∀ v, g_lk ls (i - 1) = some v → 0 < i → (v.category == 2) = false := by
  intro v hv hi
  obtain ⟨j, rfl⟩ : ∃ j, i = j + 1 := ⟨i - 1, by omega⟩
  have hv' : g_lk ls j = some v := hv
  unfold g_ncl at h
  cases v <;> simp_all [Value.category]
theorem gr_mask (i : Nat) (k : g_RF w l M d mc ms pc ((i, none) :: ls) st G Q) : g_RF w l M d mc ms pc ls st G Q :=
  fun p e R s m args below meth c H locs cells slots mcT msT lsA F B h hl => k p e R s m args below meth c H locs cells slots mcT msT lsA F B h hl.mask
theorem gr_istore_n {k : Fin 4} {i : Nat} {x : Int32} (hd : decode M.2.1 pc = .ok (.istore_n k, 1)) (hi : (k : Nat) = i) (hn : Nat.blt i M.2.2.1 = true) (hc : g_ncl ls i = true) (k : g_RF w l M d mc ms (pc + 1) ((i, some (.int x)) :: ls) st G Q) : g_RF w l M d mc ms pc ls (.int x :: st) G Q :=
  fun p e R s m args below meth c H locs cells slots mcT msT lsA F B h hl => lv_istore_n F.1 F.2.1 hd hi hl.full (Nat.le_of_ble_eq_true hn) rfl (fun lsB hB => k p e R s m args below meth c H locs cells slots mcT msT lsB F B h (hl.set1 hB (g_ncl_of hc)))
theorem gr_istore {i : Nat} {x : Int32} (hd : decode M.2.1 pc = .ok (.istore i, 2)) (hn : Nat.blt i M.2.2.1 = true) (hc : g_ncl ls i = true) (k : g_RF w l M d mc ms (pc + 2) ((i, some (.int x)) :: ls) st G Q) : g_RF w l M d mc ms pc ls (.int x :: st) G Q :=
  fun p e R s m args below meth c H locs cells slots mcT msT lsA F B h hl => lv_istore F.1 F.2.1 hd hl.full (Nat.le_of_ble_eq_true hn) rfl (fun lsB hB => k p e R s m args below meth c H locs cells slots mcT msT lsB F B h (hl.set1 hB (g_ncl_of hc)))
theorem gr_astore_n {k : Fin 4} {i : Nat} {x : Nat} (hd : decode M.2.1 pc = .ok (.astore_n k, 1)) (hi : (k : Nat) = i) (hn : Nat.blt i M.2.2.1 = true) (hc : g_ncl ls i = true) (k : g_RF w l M d mc ms (pc + 1) ((i, some (.ref x)) :: ls) st G Q) : g_RF w l M d mc ms pc ls (.ref x :: st) G Q :=
  fun p e R s m args below meth c H locs cells slots mcT msT lsA F B h hl => lv_astore_n F.1 F.2.1 hd hi hl.full (Nat.le_of_ble_eq_true hn) rfl (fun lsB hB => k p e R s m args below meth c H locs cells slots mcT msT lsB F B h (hl.set1 hB (g_ncl_of hc)))
theorem gr_astore {i : Nat} {x : Nat} (hd : decode M.2.1 pc = .ok (.astore i, 2)) (hn : Nat.blt i M.2.2.1 = true) (hc : g_ncl ls i = true) (k : g_RF w l M d mc ms (pc + 2) ((i, some (.ref x)) :: ls) st G Q) : g_RF w l M d mc ms pc ls (.ref x :: st) G Q :=
  fun p e R s m args below meth c H locs cells slots mcT msT lsA F B h hl => lv_astore F.1 F.2.1 hd hl.full (Nat.le_of_ble_eq_true hn) rfl (fun lsB hB => k p e R s m args below meth c H locs cells slots mcT msT lsB F B h (hl.set1 hB (g_ncl_of hc)))
theorem gr_astore_nN {k : Fin 4} {i : Nat} (hd : decode M.2.1 pc = .ok (.astore_n k, 1)) (hi : (k : Nat) = i) (hn : Nat.blt i M.2.2.1 = true) (hc : g_ncl ls i = true) (k : g_RF w l M d mc ms (pc + 1) ((i, some (.null)) :: ls) st G Q) : g_RF w l M d mc ms pc ls (.null :: st) G Q :=
  fun p e R s m args below meth c H locs cells slots mcT msT lsA F B h hl => lv_astore_nN F.1 F.2.1 hd hi hl.full (Nat.le_of_ble_eq_true hn) rfl (fun lsB hB => k p e R s m args below meth c H locs cells slots mcT msT lsB F B h (hl.set1 hB (g_ncl_of hc)))
theorem gr_astoreN {i : Nat} (hd : decode M.2.1 pc = .ok (.astore i, 2)) (hn : Nat.blt i M.2.2.1 = true) (hc : g_ncl ls i = true) (k : g_RF w l M d mc ms (pc + 2) ((i, some (.null)) :: ls) st G Q) : g_RF w l M d mc ms pc ls (.null :: st) G Q :=
  fun p e R s m args below meth c H locs cells slots mcT msT lsA F B h hl => lv_astoreN F.1 F.2.1 hd hl.full (Nat.le_of_ble_eq_true hn) rfl (fun lsB hB => k p e R s m args below meth c H locs cells slots mcT msT lsB F B h (hl.set1 hB (g_ncl_of hc)))
theorem gr_lstore_n {k : Fin 4} {i : Nat} {x : Int64} (hd : decode M.2.1 pc = .ok (.lstore_n k, 1)) (hi : (k : Nat) = i) (hn : Nat.blt (i + 1) M.2.2.1 = true) (hc : g_ncl ls i = true) (k : g_RF w l M d mc ms (pc + 1) ((i, some (.long x)) :: (i + 1, none) :: ls) st G Q) : g_RF w l M d mc ms pc ls (.long x :: st) G Q :=
  fun p e R s m args below meth c H locs cells slots mcT msT lsA F B h hl => lv_lstore_n F.1 F.2.1 hd hi hl.full (Nat.le_of_ble_eq_true hn) rfl (fun lsB hB => k p e R s m args below meth c H locs cells slots mcT msT lsB F B h (hl.set2 hB (g_ncl_of hc)))
theorem gr_lstore {i : Nat} {x : Int64} (hd : decode M.2.1 pc = .ok (.lstore i, 2)) (hn : Nat.blt (i + 1) M.2.2.1 = true) (hc : g_ncl ls i = true) (k : g_RF w l M d mc ms (pc + 2) ((i, some (.long x)) :: (i + 1, none) :: ls) st G Q) : g_RF w l M d mc ms pc ls (.long x :: st) G Q :=
  fun p e R s m args below meth c H locs cells slots mcT msT lsA F B h hl => lv_lstore F.1 F.2.1 hd hl.full (Nat.le_of_ble_eq_true hn) rfl (fun lsB hB => k p e R s m args below meth c H locs cells slots mcT msT lsB F B h (hl.set2 hB (g_ncl_of hc)))
theorem gr_iinc {i : Nat} {n : Int} {x v : Int32} (hd : decode M.2.1 pc = .ok (.iinc i n, 3)) (hx : g_lk ls i = some (.int x)) (hv : x + Int32.ofInt n = v) (hn : Nat.blt i M.2.2.1 = true) (hc : g_ncl ls i = true) (k : g_RF w l M d mc ms (pc + 3) ((i, some (.int v)) :: ls) st G Q) : g_RF w l M d mc ms pc ls st G Q :=
  fun p e R s m args below meth c H locs cells slots mcT msT lsA F B h hl => by
    obtain ⟨j, hj⟩ := List.getElem?_of_mem (g_full_mem.mpr (hl.2.2 _ _ hx))
    exact lv_iinc F.1 F.2.1 hd hl.full hj hv (Nat.le_of_ble_eq_true hn) rfl (fun lsB hB => k p e R s m args below meth c H locs cells slots mcT msT lsB F B h (hl.set1 hB (g_ncl_of hc)))
theorem gr_iadd {x y : Int32} (hd : decode M.2.1 pc = .ok (.iadd, 1)) (k : g_RF w l M d mc ms (pc + 1) ls (.int (x + y) :: st) G Q) : g_RF w l M d mc ms pc ls (.int y :: .int x :: st) G Q :=
  fun p e R s m args below meth c H locs cells slots mcT msT lsA F B h hl => lv_iadd F.1 F.2.1 hd  (k p e R s m args below meth c H locs cells slots mcT msT lsA F B h hl)
theorem gr_isub {x y : Int32} (hd : decode M.2.1 pc = .ok (.isub, 1)) (k : g_RF w l M d mc ms (pc + 1) ls (.int (x - y) :: st) G Q) : g_RF w l M d mc ms pc ls (.int y :: .int x :: st) G Q :=
  fun p e R s m args below meth c H locs cells slots mcT msT lsA F B h hl => lv_isub F.1 F.2.1 hd  (k p e R s m args below meth c H locs cells slots mcT msT lsA F B h hl)
theorem gr_imul {x y : Int32} (hd : decode M.2.1 pc = .ok (.imul, 1)) (k : g_RF w l M d mc ms (pc + 1) ls (.int (x * y) :: st) G Q) : g_RF w l M d mc ms pc ls (.int y :: .int x :: st) G Q :=
  fun p e R s m args below meth c H locs cells slots mcT msT lsA F B h hl => lv_imul F.1 F.2.1 hd  (k p e R s m args below meth c H locs cells slots mcT msT lsA F B h hl)
theorem gr_iand {x y : Int32} (hd : decode M.2.1 pc = .ok (.iand, 1)) (k : g_RF w l M d mc ms (pc + 1) ls (.int (x &&& y) :: st) G Q) : g_RF w l M d mc ms pc ls (.int y :: .int x :: st) G Q :=
  fun p e R s m args below meth c H locs cells slots mcT msT lsA F B h hl => lv_iand F.1 F.2.1 hd  (k p e R s m args below meth c H locs cells slots mcT msT lsA F B h hl)
theorem gr_ior {x y : Int32} (hd : decode M.2.1 pc = .ok (.ior, 1)) (k : g_RF w l M d mc ms (pc + 1) ls (.int (x ||| y) :: st) G Q) : g_RF w l M d mc ms pc ls (.int y :: .int x :: st) G Q :=
  fun p e R s m args below meth c H locs cells slots mcT msT lsA F B h hl => lv_ior F.1 F.2.1 hd  (k p e R s m args below meth c H locs cells slots mcT msT lsA F B h hl)
theorem gr_ixor {x y : Int32} (hd : decode M.2.1 pc = .ok (.ixor, 1)) (k : g_RF w l M d mc ms (pc + 1) ls (.int (x ^^^ y) :: st) G Q) : g_RF w l M d mc ms pc ls (.int y :: .int x :: st) G Q :=
  fun p e R s m args below meth c H locs cells slots mcT msT lsA F B h hl => lv_ixor F.1 F.2.1 hd  (k p e R s m args below meth c H locs cells slots mcT msT lsA F B h hl)
theorem gr_ishl {x y : Int32} (hd : decode M.2.1 pc = .ok (.ishl, 1)) (k : g_RF w l M d mc ms (pc + 1) ls (.int (x <<< (y &&& 31)) :: st) G Q) : g_RF w l M d mc ms pc ls (.int y :: .int x :: st) G Q :=
  fun p e R s m args below meth c H locs cells slots mcT msT lsA F B h hl => lv_ishl F.1 F.2.1 hd  (k p e R s m args below meth c H locs cells slots mcT msT lsA F B h hl)
theorem gr_ishr {x y : Int32} (hd : decode M.2.1 pc = .ok (.ishr, 1)) (k : g_RF w l M d mc ms (pc + 1) ls (.int (x >>> (y &&& 31)) :: st) G Q) : g_RF w l M d mc ms pc ls (.int y :: .int x :: st) G Q :=
  fun p e R s m args below meth c H locs cells slots mcT msT lsA F B h hl => lv_ishr F.1 F.2.1 hd  (k p e R s m args below meth c H locs cells slots mcT msT lsA F B h hl)
theorem gr_iushr {x y v : Int32} (hd : decode M.2.1 pc = .ok (.iushr, 1)) (hv : (x.toUInt32 >>> (y.toUInt32 &&& Int32.toUInt32 31)).toInt32 = v) (k : g_RF w l M d mc ms (pc + 1) ls (.int v :: st) G Q) : g_RF w l M d mc ms pc ls (.int y :: .int x :: st) G Q :=
  fun p e R s m args below meth c H locs cells slots mcT msT lsA F B h hl => lv_iushr F.1 F.2.1 hd hv (k p e R s m args below meth c H locs cells slots mcT msT lsA F B h hl)
theorem gr_idiv {x y : Int32} (hd : decode M.2.1 pc = .ok (.idiv, 1)) (hne : ¬ y = 0) (k : g_RF w l M d mc ms (pc + 1) ls (.int (x / y) :: st) G Q) : g_RF w l M d mc ms pc ls (.int y :: .int x :: st) G Q :=
  fun p e R s m args below meth c H locs cells slots mcT msT lsA F B h hl => lv_idiv F.1 F.2.1 hd hne (k p e R s m args below meth c H locs cells slots mcT msT lsA F B h hl)
theorem gr_irem {x y : Int32} (hd : decode M.2.1 pc = .ok (.irem, 1)) (hne : ¬ y = 0) (k : g_RF w l M d mc ms (pc + 1) ls (.int (x - x / y * y) :: st) G Q) : g_RF w l M d mc ms pc ls (.int y :: .int x :: st) G Q :=
  fun p e R s m args below meth c H locs cells slots mcT msT lsA F B h hl => lv_irem F.1 F.2.1 hd hne (k p e R s m args below meth c H locs cells slots mcT msT lsA F B h hl)
theorem gr_ineg {x : Int32} (hd : decode M.2.1 pc = .ok (.ineg, 1)) (k : g_RF w l M d mc ms (pc + 1) ls (.int (-x) :: st) G Q) : g_RF w l M d mc ms pc ls (.int x :: st) G Q :=
  fun p e R s m args below meth c H locs cells slots mcT msT lsA F B h hl => lv_ineg F.1 F.2.1 hd  (k p e R s m args below meth c H locs cells slots mcT msT lsA F B h hl)
theorem gr_ladd {x y : Int64} (hd : decode M.2.1 pc = .ok (.ladd, 1)) (k : g_RF w l M d mc ms (pc + 1) ls (.long (x + y) :: st) G Q) : g_RF w l M d mc ms pc ls (.long y :: .long x :: st) G Q :=
  fun p e R s m args below meth c H locs cells slots mcT msT lsA F B h hl => lv_ladd F.1 F.2.1 hd  (k p e R s m args below meth c H locs cells slots mcT msT lsA F B h hl)
theorem gr_lsub {x y : Int64} (hd : decode M.2.1 pc = .ok (.lsub, 1)) (k : g_RF w l M d mc ms (pc + 1) ls (.long (x - y) :: st) G Q) : g_RF w l M d mc ms pc ls (.long y :: .long x :: st) G Q :=
  fun p e R s m args below meth c H locs cells slots mcT msT lsA F B h hl => lv_lsub F.1 F.2.1 hd  (k p e R s m args below meth c H locs cells slots mcT msT lsA F B h hl)
theorem gr_lmul {x y : Int64} (hd : decode M.2.1 pc = .ok (.lmul, 1)) (k : g_RF w l M d mc ms (pc + 1) ls (.long (x * y) :: st) G Q) : g_RF w l M d mc ms pc ls (.long y :: .long x :: st) G Q :=
  fun p e R s m args below meth c H locs cells slots mcT msT lsA F B h hl => lv_lmul F.1 F.2.1 hd  (k p e R s m args below meth c H locs cells slots mcT msT lsA F B h hl)
theorem gr_lneg {x : Int64} (hd : decode M.2.1 pc = .ok (.lneg, 1)) (k : g_RF w l M d mc ms (pc + 1) ls (.long (-x) :: st) G Q) : g_RF w l M d mc ms pc ls (.long x :: st) G Q :=
  fun p e R s m args below meth c H locs cells slots mcT msT lsA F B h hl => lv_lneg F.1 F.2.1 hd  (k p e R s m args below meth c H locs cells slots mcT msT lsA F B h hl)
theorem gr_lcmp {x y : Int64} (hd : decode M.2.1 pc = .ok (.lcmp, 1)) (k : g_RF w l M d mc ms (pc + 1) ls (.int (lg_cmp x y) :: st) G Q) : g_RF w l M d mc ms pc ls (.long y :: .long x :: st) G Q :=
  fun p e R s m args below meth c H locs cells slots mcT msT lsA F B h hl => W.lcmp F.1 F.2.1 hd  (k p e R s m args below meth c H locs cells slots mcT msT lsA F B h hl)
theorem gr_i2l {x : Int32} (hd : decode M.2.1 pc = .ok (.i2l, 1)) (k : g_RF w l M d mc ms (pc + 1) ls (.long x.toInt64 :: st) G Q) : g_RF w l M d mc ms pc ls (.int x :: st) G Q :=
  fun p e R s m args below meth c H locs cells slots mcT msT lsA F B h hl => lv_i2l F.1 F.2.1 hd rfl (k p e R s m args below meth c H locs cells slots mcT msT lsA F B h hl)
theorem gr_l2i {x : Int64} (hd : decode M.2.1 pc = .ok (.l2i, 1)) (k : g_RF w l M d mc ms (pc + 1) ls (.int x.toInt32 :: st) G Q) : g_RF w l M d mc ms pc ls (.long x :: st) G Q :=
  fun p e R s m args below meth c H locs cells slots mcT msT lsA F B h hl => lv_l2i F.1 F.2.1 hd rfl (k p e R s m args below meth c H locs cells slots mcT msT lsA F B h hl)
theorem gr_i2b {x v : Int32} (hd : decode M.2.1 pc = .ok (.i2b, 1)) (hv : x.toInt8.toInt32 = v) (k : g_RF w l M d mc ms (pc + 1) ls (.int v :: st) G Q) : g_RF w l M d mc ms pc ls (.int x :: st) G Q :=
  fun p e R s m args below meth c H locs cells slots mcT msT lsA F B h hl => lv_i2b F.1 F.2.1 hd hv (k p e R s m args below meth c H locs cells slots mcT msT lsA F B h hl)
theorem gr_i2c {x v : Int32} (hd : decode M.2.1 pc = .ok (.i2c, 1)) (hv : (x.toUInt32 % 65536).toInt32 = v) (k : g_RF w l M d mc ms (pc + 1) ls (.int v :: st) G Q) : g_RF w l M d mc ms pc ls (.int x :: st) G Q :=
  fun p e R s m args below meth c H locs cells slots mcT msT lsA F B h hl => lv_i2c F.1 F.2.1 hd hv (k p e R s m args below meth c H locs cells slots mcT msT lsA F B h hl)
theorem gr_dup {va : Value} (hd : decode M.2.1 pc = .ok (.dup, 1)) (h1 : va.category = 1) (k : g_RF w l M d mc ms (pc + 1) ls (va :: va :: st) G Q) : g_RF w l M d mc ms pc ls (va :: st) G Q :=
  fun p e R s m args below meth c H locs cells slots mcT msT lsA F B h hl => lv_dup F.1 F.2.1 hd h1 (k p e R s m args below meth c H locs cells slots mcT msT lsA F B h hl)
theorem gr_pop {va : Value} (hd : decode M.2.1 pc = .ok (.pop, 1)) (h1 : va.category = 1) (k : g_RF w l M d mc ms (pc + 1) ls (st) G Q) : g_RF w l M d mc ms pc ls (va :: st) G Q :=
  fun p e R s m args below meth c H locs cells slots mcT msT lsA F B h hl => lv_pop F.1 F.2.1 hd h1 (k p e R s m args below meth c H locs cells slots mcT msT lsA F B h hl)
theorem gr_dup_x1 {va vb : Value} (hd : decode M.2.1 pc = .ok (.dup_x1, 1)) (h1 : va.category = 1) (h2 : vb.category = 1) (k : g_RF w l M d mc ms (pc + 1) ls (va :: vb :: va :: st) G Q) : g_RF w l M d mc ms pc ls (va :: vb :: st) G Q :=
  fun p e R s m args below meth c H locs cells slots mcT msT lsA F B h hl => lv_dup_x1 F.1 F.2.1 hd h1 h2 (k p e R s m args below meth c H locs cells slots mcT msT lsA F B h hl)
theorem gr_dup2 {va vb : Value} (hd : decode M.2.1 pc = .ok (.dup2, 1)) (h1 : va.category = 1) (h2 : vb.category = 1) (k : g_RF w l M d mc ms (pc + 1) ls (va :: vb :: va :: vb :: st) G Q) : g_RF w l M d mc ms pc ls (va :: vb :: st) G Q :=
  fun p e R s m args below meth c H locs cells slots mcT msT lsA F B h hl => lv_dup2_11 F.1 F.2.1 hd h1 h2 (k p e R s m args below meth c H locs cells slots mcT msT lsA F B h hl)
theorem gr_ifeq {x : Int32} {off : Int} {tgt : Nat} (hd : decode M.2.1 pc = .ok (.ifCond .eq off, 3)) (ht : (pc : Int) + off = (tgt : Int)) (kt : x = 0 → g_RF w l M d mc ms tgt ls st G Q) (kf : ¬ x = 0 → g_RF w l M d mc ms (pc + 3) ls st G Q) : g_RF w l M d mc ms pc ls (.int x :: st) G Q :=
  fun p e R s m args below meth c H locs cells slots mcT msT lsA F B h hl => lv_if_eq F.1 F.2.1 hd ht (fun q => kt q p e R s m args below meth c H locs cells slots mcT msT lsA F B h hl) (fun q => kf q p e R s m args below meth c H locs cells slots mcT msT lsA F B h hl)
theorem gr_icmpeq {x y : Int32} {off : Int} {tgt : Nat} (hd : decode M.2.1 pc = .ok (.if_icmp .eq off, 3)) (ht : (pc : Int) + off = (tgt : Int)) (kt : x = y → g_RF w l M d mc ms tgt ls st G Q) (kf : ¬ x = y → g_RF w l M d mc ms (pc + 3) ls st G Q) : g_RF w l M d mc ms pc ls (.int y :: .int x :: st) G Q :=
  fun p e R s m args below meth c H locs cells slots mcT msT lsA F B h hl => lv_icmp_eq F.1 F.2.1 hd ht (fun q => kt q p e R s m args below meth c H locs cells slots mcT msT lsA F B h hl) (fun q => kf q p e R s m args below meth c H locs cells slots mcT msT lsA F B h hl)
theorem gr_ifne {x : Int32} {off : Int} {tgt : Nat} (hd : decode M.2.1 pc = .ok (.ifCond .ne off, 3)) (ht : (pc : Int) + off = (tgt : Int)) (kt : ¬ x = 0 → g_RF w l M d mc ms tgt ls st G Q) (kf : x = 0 → g_RF w l M d mc ms (pc + 3) ls st G Q) : g_RF w l M d mc ms pc ls (.int x :: st) G Q :=
  fun p e R s m args below meth c H locs cells slots mcT msT lsA F B h hl => lv_if_ne F.1 F.2.1 hd ht (fun q => kt q p e R s m args below meth c H locs cells slots mcT msT lsA F B h hl) (fun q => kf q p e R s m args below meth c H locs cells slots mcT msT lsA F B h hl)
theorem gr_icmpne {x y : Int32} {off : Int} {tgt : Nat} (hd : decode M.2.1 pc = .ok (.if_icmp .ne off, 3)) (ht : (pc : Int) + off = (tgt : Int)) (kt : ¬ x = y → g_RF w l M d mc ms tgt ls st G Q) (kf : x = y → g_RF w l M d mc ms (pc + 3) ls st G Q) : g_RF w l M d mc ms pc ls (.int y :: .int x :: st) G Q :=
  fun p e R s m args below meth c H locs cells slots mcT msT lsA F B h hl => lv_icmp_ne F.1 F.2.1 hd ht (fun q => kt q p e R s m args below meth c H locs cells slots mcT msT lsA F B h hl) (fun q => kf q p e R s m args below meth c H locs cells slots mcT msT lsA F B h hl)
theorem gr_iflt {x : Int32} {off : Int} {tgt : Nat} (hd : decode M.2.1 pc = .ok (.ifCond .lt off, 3)) (ht : (pc : Int) + off = (tgt : Int)) (kt : x < 0 → g_RF w l M d mc ms tgt ls st G Q) (kf : ¬ x < 0 → g_RF w l M d mc ms (pc + 3) ls st G Q) : g_RF w l M d mc ms pc ls (.int x :: st) G Q :=
  fun p e R s m args below meth c H locs cells slots mcT msT lsA F B h hl => lv_if_lt F.1 F.2.1 hd ht (fun q => kt q p e R s m args below meth c H locs cells slots mcT msT lsA F B h hl) (fun q => kf q p e R s m args below meth c H locs cells slots mcT msT lsA F B h hl)
theorem gr_icmplt {x y : Int32} {off : Int} {tgt : Nat} (hd : decode M.2.1 pc = .ok (.if_icmp .lt off, 3)) (ht : (pc : Int) + off = (tgt : Int)) (kt : x < y → g_RF w l M d mc ms tgt ls st G Q) (kf : ¬ x < y → g_RF w l M d mc ms (pc + 3) ls st G Q) : g_RF w l M d mc ms pc ls (.int y :: .int x :: st) G Q :=
  fun p e R s m args below meth c H locs cells slots mcT msT lsA F B h hl => lv_icmp_lt F.1 F.2.1 hd ht (fun q => kt q p e R s m args below meth c H locs cells slots mcT msT lsA F B h hl) (fun q => kf q p e R s m args below meth c H locs cells slots mcT msT lsA F B h hl)
theorem gr_ifge {x : Int32} {off : Int} {tgt : Nat} (hd : decode M.2.1 pc = .ok (.ifCond .ge off, 3)) (ht : (pc : Int) + off = (tgt : Int)) (kt : 0 ≤ x → g_RF w l M d mc ms tgt ls st G Q) (kf : ¬ 0 ≤ x → g_RF w l M d mc ms (pc + 3) ls st G Q) : g_RF w l M d mc ms pc ls (.int x :: st) G Q :=
  fun p e R s m args below meth c H locs cells slots mcT msT lsA F B h hl => lv_if_ge F.1 F.2.1 hd ht (fun q => kt q p e R s m args below meth c H locs cells slots mcT msT lsA F B h hl) (fun q => kf q p e R s m args below meth c H locs cells slots mcT msT lsA F B h hl)
theorem gr_icmpge {x y : Int32} {off : Int} {tgt : Nat} (hd : decode M.2.1 pc = .ok (.if_icmp .ge off, 3)) (ht : (pc : Int) + off = (tgt : Int)) (kt : y ≤ x → g_RF w l M d mc ms tgt ls st G Q) (kf : ¬ y ≤ x → g_RF w l M d mc ms (pc + 3) ls st G Q) : g_RF w l M d mc ms pc ls (.int y :: .int x :: st) G Q :=
  fun p e R s m args below meth c H locs cells slots mcT msT lsA F B h hl => lv_icmp_ge F.1 F.2.1 hd ht (fun q => kt q p e R s m args below meth c H locs cells slots mcT msT lsA F B h hl) (fun q => kf q p e R s m args below meth c H locs cells slots mcT msT lsA F B h hl)
theorem gr_ifgt {x : Int32} {off : Int} {tgt : Nat} (hd : decode M.2.1 pc = .ok (.ifCond .gt off, 3)) (ht : (pc : Int) + off = (tgt : Int)) (kt : 0 < x → g_RF w l M d mc ms tgt ls st G Q) (kf : ¬ 0 < x → g_RF w l M d mc ms (pc + 3) ls st G Q) : g_RF w l M d mc ms pc ls (.int x :: st) G Q :=
  fun p e R s m args below meth c H locs cells slots mcT msT lsA F B h hl => lv_if_gt F.1 F.2.1 hd ht (fun q => kt q p e R s m args below meth c H locs cells slots mcT msT lsA F B h hl) (fun q => kf q p e R s m args below meth c H locs cells slots mcT msT lsA F B h hl)
theorem gr_icmpgt {x y : Int32} {off : Int} {tgt : Nat} (hd : decode M.2.1 pc = .ok (.if_icmp .gt off, 3)) (ht : (pc : Int) + off = (tgt : Int)) (kt : y < x → g_RF w l M d mc ms tgt ls st G Q) (kf : ¬ y < x → g_RF w l M d mc ms (pc + 3) ls st G Q) : g_RF w l M d mc ms pc ls (.int y :: .int x :: st) G Q :=
  fun p e R s m args below meth c H locs cells slots mcT msT lsA F B h hl => lv_icmp_gt F.1 F.2.1 hd ht (fun q => kt q p e R s m args below meth c H locs cells slots mcT msT lsA F B h hl) (fun q => kf q p e R s m args below meth c H locs cells slots mcT msT lsA F B h hl)
theorem gr_ifle {x : Int32} {off : Int} {tgt : Nat} (hd : decode M.2.1 pc = .ok (.ifCond .le off, 3)) (ht : (pc : Int) + off = (tgt : Int)) (kt : x ≤ 0 → g_RF w l M d mc ms tgt ls st G Q) (kf : ¬ x ≤ 0 → g_RF w l M d mc ms (pc + 3) ls st G Q) : g_RF w l M d mc ms pc ls (.int x :: st) G Q :=
  fun p e R s m args below meth c H locs cells slots mcT msT lsA F B h hl => lv_if_le F.1 F.2.1 hd ht (fun q => kt q p e R s m args below meth c H locs cells slots mcT msT lsA F B h hl) (fun q => kf q p e R s m args below meth c H locs cells slots mcT msT lsA F B h hl)
theorem gr_icmple {x y : Int32} {off : Int} {tgt : Nat} (hd : decode M.2.1 pc = .ok (.if_icmp .le off, 3)) (ht : (pc : Int) + off = (tgt : Int)) (kt : x ≤ y → g_RF w l M d mc ms tgt ls st G Q) (kf : ¬ x ≤ y → g_RF w l M d mc ms (pc + 3) ls st G Q) : g_RF w l M d mc ms pc ls (.int y :: .int x :: st) G Q :=
  fun p e R s m args below meth c H locs cells slots mcT msT lsA F B h hl => lv_icmp_le F.1 F.2.1 hd ht (fun q => kt q p e R s m args below meth c H locs cells slots mcT msT lsA F B h hl) (fun q => kf q p e R s m args below meth c H locs cells slots mcT msT lsA F B h hl)
theorem gr_goto {off : Int} {tgt : Nat} (hd : decode M.2.1 pc = .ok (.goto off, 3)) (ht : (pc : Int) + off = (tgt : Int)) (k : g_RF w l M d mc ms tgt ls st G Q) : g_RF w l M d mc ms pc ls st G Q :=
  fun p e R s m args below meth c H locs cells slots mcT msT lsA F B h hl => lv_goto F.1 F.2.1 hd ht (k p e R s m args below meth c H locs cells slots mcT msT lsA F B h hl)
theorem gr_ifnull {x : Nat} {off : Int} (hd : decode M.2.1 pc = .ok (.ifnull off, 3)) (k : g_RF w l M d mc ms (pc + 3) ls st G Q) : g_RF w l M d mc ms pc ls (.ref x :: st) G Q :=
  fun p e R s m args below meth c H locs cells slots mcT msT lsA F B h hl => lv_ifnull F.1 F.2.1 hd (k p e R s m args below meth c H locs cells slots mcT msT lsA F B h hl)
theorem gr_ifnullN {off : Int} {tgt : Nat} (hd : decode M.2.1 pc = .ok (.ifnull off, 3)) (ht : (pc : Int) + off = (tgt : Int)) (k : g_RF w l M d mc ms tgt ls st G Q) : g_RF w l M d mc ms pc ls (.null :: st) G Q :=
  fun p e R s m args below meth c H locs cells slots mcT msT lsA F B h hl => lv_ifnullN F.1 F.2.1 hd ht (k p e R s m args below meth c H locs cells slots mcT msT lsA F B h hl)
theorem gr_ifnonnull {x : Nat} {off : Int} {tgt : Nat} (hd : decode M.2.1 pc = .ok (.ifnonnull off, 3)) (ht : (pc : Int) + off = (tgt : Int)) (k : g_RF w l M d mc ms tgt ls st G Q) : g_RF w l M d mc ms pc ls (.ref x :: st) G Q :=
  fun p e R s m args below meth c H locs cells slots mcT msT lsA F B h hl => lv_ifnonnull F.1 F.2.1 hd ht (k p e R s m args below meth c H locs cells slots mcT msT lsA F B h hl)
theorem gr_ifnonnullN {off : Int} (hd : decode M.2.1 pc = .ok (.ifnonnull off, 3)) (k : g_RF w l M d mc ms (pc + 3) ls st G Q) : g_RF w l M d mc ms pc ls (.null :: st) G Q :=
  fun p e R s m args below meth c H locs cells slots mcT msT lsA F B h hl => lv_ifnonnullN F.1 F.2.1 hd (k p e R s m args below meth c H locs cells slots mcT msT lsA F B h hl)
theorem gr_acmpeq {x y : Nat} {off : Int} {tgt : Nat} (hd : decode M.2.1 pc = .ok (.if_acmp .eq off, 3)) (ht : (pc : Int) + off = (tgt : Int)) (kt : x = y → g_RF w l M d mc ms tgt ls st G Q) (kf : ¬ x = y → g_RF w l M d mc ms (pc + 3) ls st G Q) : g_RF w l M d mc ms pc ls (.ref y :: .ref x :: st) G Q :=
  fun p e R s m args below meth c H locs cells slots mcT msT lsA F B h hl => lv_acmp_eq (rx := some x) (ry := some y) F.1 F.2.1 hd ht (fun q => kt (Option.some.inj q) p e R s m args below meth c H locs cells slots mcT msT lsA F B h hl) (fun q => kf (fun q2 => q (congrArg some q2)) p e R s m args below meth c H locs cells slots mcT msT lsA F B h hl)
theorem gr_acmpne {x y : Nat} {off : Int} {tgt : Nat} (hd : decode M.2.1 pc = .ok (.if_acmp .ne off, 3)) (ht : (pc : Int) + off = (tgt : Int)) (kt : ¬ x = y → g_RF w l M d mc ms tgt ls st G Q) (kf : x = y → g_RF w l M d mc ms (pc + 3) ls st G Q) : g_RF w l M d mc ms pc ls (.ref y :: .ref x :: st) G Q :=
  fun p e R s m args below meth c H locs cells slots mcT msT lsA F B h hl => lv_acmp_ne (rx := some x) (ry := some y) F.1 F.2.1 hd ht (fun q => kt (fun q2 => q (congrArg some q2)) p e R s m args below meth c H locs cells slots mcT msT lsA F B h hl) (fun q => kf (Option.some.inj q) p e R s m args below meth c H locs cells slots mcT msT lsA F B h hl)
theorem gr_lookup {dflt : Int} {ps : Array (Int × Int)} {len : Nat} {x : Int32} {off : Int} {tgt : Nat} (hd : decode M.2.1 pc = .ok (.lookupswitch dflt ps, len)) (hp : (ps.toList.zip (ps.toList.drop 1)).all (fun (a, next) => a.1 < next.1) = true) (ho : Op.lookupswitch.offset ps.toList dflt x.toInt = off) (ht : (pc : Int) + off = (tgt : Int)) (k : g_RF w l M d mc ms tgt ls st G Q) : g_RF w l M d mc ms pc ls (.int x :: st) G Q :=
  fun p e R s m args below meth c H locs cells slots mcT msT lsA F B h hl => lv_lookup F.1 F.2.1 hd hp ho ht (k p e R s m args below meth c H locs cells slots mcT msT lsA F B h hl)
theorem gr_tableOut {dflt lo hi : Int} {offs : Array Int} {len : Nat} {x : Int32} {tgt : Nat} (hd : decode M.2.1 pc = .ok (.tableswitch dflt lo hi offs, len)) (hq : x.toInt < lo ∨ hi < x.toInt) (ht : (pc : Int) + dflt = (tgt : Int)) (k : g_RF w l M d mc ms tgt ls st G Q) : g_RF w l M d mc ms pc ls (.int x :: st) G Q :=
  fun p e R s m args below meth c H locs cells slots mcT msT lsA F B h hl => lv_tableOut F.1 F.2.1 hd hq ht (k p e R s m args below meth c H locs cells slots mcT msT lsA F B h hl)
theorem gr_tableIn {dflt lo hi : Int} {offs : Array Int} {len : Nat} {x : Int32} {off : Int} {tgt : Nat} (hd : decode M.2.1 pc = .ok (.tableswitch dflt lo hi offs, len)) (h1 : ¬ x.toInt < lo) (h2 : ¬ hi < x.toInt) (ho : offs[(x.toInt - lo).toNat]? = some off) (ht : (pc : Int) + off = (tgt : Int)) (k : g_RF w l M d mc ms tgt ls st G Q) : g_RF w l M d mc ms pc ls (.int x :: st) G Q :=
  fun p e R s m args below meth c H locs cells slots mcT msT lsA F B h hl => lv_tableIn F.1 F.2.1 hd h1 h2 ho ht (k p e R s m args below meth c H locs cells slots mcT msT lsA F B h hl)
theorem gr_ldc {idx : Nat} {v : Int32} (hd : decode M.2.1 pc = .ok (.ldc idx, 2)) (hq : Cond.constant M.1.cls idx v ∈ lw_all) (k : g_RF w l M d mc ms (pc + 2) ls (.int v :: st) G Q) : g_RF w l M d mc ms pc ls st G Q :=
  fun p e R s m args below meth c H locs cells slots mcT msT lsA F B h hl => lv_ldc F.1 F.2.1 F.2.2.2.2.2.2.2.1 (F.2.2.2.2.2.2.2.2.1 _ hq) hd (k p e R s m args below meth c H locs cells slots mcT msT lsA F B h hl)
theorem gr_ldc2 {idx : Nat} {v : Int64} (hd : decode M.2.1 pc = .ok (.ldc2_w idx, 3)) (hq : Cond.constantLong M.1.cls idx v ∈ lw_all) (k : g_RF w l M d mc ms (pc + 3) ls (.long v :: st) G Q) : g_RF w l M d mc ms pc ls st G Q :=
  fun p e R s m args below meth c H locs cells slots mcT msT lsA F B h hl => lv_ldc2 F.1 F.2.1 F.2.2.2.2.2.2.2.1 (F.2.2.2.2.2.2.2.2.1 _ hq) hd (k p e R s m args below meth c H locs cells slots mcT msT lsA F B h hl)
/-- fewer locals known -/
theorem gr_loc (lc : List (Nat × Value)) (ha : g_all (g_lk ls) lc) (k : g_RF w l M d mc ms pc (g_ls lc) st G Q) : g_RF w l M d mc ms pc ls st G Q :=
  fun p e R s m args below meth c H locs cells slots mcT msT lsA F B h hl => k p e R s m args below meth c H locs cells slots mcT msT lsA F B h (hl.sub ha)
/-- less room is enough -/
theorem gr_wid {mc' ms' : Nat} (h1 : mc' ≤ mc) (h2 : ms' ≤ ms) (k : g_RF w l M d mc' ms' pc ls st G Q) : g_RF w l M d mc ms pc ls st G Q :=
  fun p e R s m args below meth c H locs cells slots mcT msT lsA F B h hl => k p e R s m args below meth c H locs cells slots mcT msT lsA F ⟨by have := B.1; omega, B.2.1, by have := B.2.2.1; omega, B.2.2.2⟩ h hl
/-- the heap may be relabelled, and forgotten in part -/
theorem gr_ghost (G' : g_H) (hg : ∀ (a : Nat) (t : g_T) (x : g_E), G' a = some (t, x) → ∃ t' : g_T, G a = some (t', x) ∧ (t'.1 = 0 → t.1 = 0)) (k : g_RF w l M d mc ms pc ls st G' Q) : g_RF w l M d mc ms pc ls st G Q :=
  fun p e R s m args below meth c H locs cells slots mcT msT lsA F B h hl => k p e R s m args below meth c H locs cells slots mcT msT lsA F B ⟨fun a t x ha => by obtain ⟨t', h', h0⟩ := hg a t x ha; exact ⟨(h.1 a t' x h').1, fun q => (h.1 a t' x h').2 (fun z => q (h0 z))⟩, h.2⟩ hl
end GR1
