/-! CORE: a judgement over an abstract heap (addresses to labelled cells), its frame, and its ends -/
set_option maxRecDepth 100000
abbrev g_T : Type := Nat × Nat × Nat
/-- a cell: an array (place of its type, length, contents) or an object (place of its class, fields) -/
abbrev g_E : Type := (Nat × Nat × (Nat → Value)) ⊕ (Nat × List Value)
abbrev g_H : Type := Nat → Option (g_T × g_E)
abbrev g_O : Type := (Option Value) ⊕ (String × Nat)
abbrev g_Q : Type := g_O → g_H → Prop
abbrev g_M : Type := MethodName × ByteArray × Nat × Option FieldType × Option (List (Nat × Nat × Nat × Nat))
abbrev g_L : Type := List (Nat × Option Value)
/-- the world: ids of classes and of their slots, of array classes, the first own address, constants' addresses -/
abbrev g_W : Type := va_G × (Nat → ClassId) × Nat × (Nat → Nat)
def g_up (G : g_H) (a : Nat) (x : g_T × g_E) : g_H := fun q => if q = a then some x else G q
theorem g_up_s {G : g_H} {a : Nat} {x : g_T × g_E} : g_up G a x a = some x := by simp [g_up]
theorem g_up_n {G : g_H} {a b : Nat} {x : g_T × g_E} (h : b ≠ a) : g_up G a x b = G b := by simp [g_up, h]
def g_b (w : g_W) : Nat := w.2.2.1
def g_A (w : g_W) : Nat → Prop := fun q => g_b w ≤ q
def g_c (w : g_W) : Nat → Nat := w.2.2.2
def g_tys (w : g_W) : List (ClassId × FieldType) := g_ft.zipIdx.map (fun q => (w.2.1 q.2, q.1))
def g_vm (w : g_W) (a : Nat) (cell : Cell) : Prop := cell.vm = .none ∨ (a < g_b w ∧ cell.vm ≠ .unknown ∧ cell.vm.isStatics = false)
def g_at (w : g_W) (a : Nat) (e : g_E) (H : Heap) : Prop := match e with
  | .inl x => ∃ cell : Cell, H[a]? = some cell ∧ g_vm w a cell ∧ (cell.cls = w.2.1 x.1) ∧ cell.slots.size = x.2.1 ∧ ∀ j : Nat, j < x.2.1 → cell.slots[j]? = some (x.2.2 j)
  | .inr o => ∃ (cell : Cell) (r : vw_C), H[a]? = some cell ∧ g_vm w a cell ∧ cell.cls = w.1.1 o.1 ∧ g_cl[o.1]? = some r ∧ o.2.length = r.2.2 ∧ ∀ k : Nat, k < r.2.2 → cell.slots[w.1.2 o.1 k]? = some (vp_V o.2 k)
/-- labels that begin with 0: cells that were there before (never written); all others: own cells -/
def g_R (w : g_W) (G : g_H) (H : Heap) : Prop := ∀ (a : Nat) (t : g_T) (e : g_E), G a = some (t, e) → g_at w a e H ∧ (t.1 ≠ 0 → g_b w ≤ a)
theorem g_at.kept {w : g_W} {a : Nat} {e : g_E} {H H1 : Heap} (h : g_at w a e H) (hq : H1[a]? = H[a]?) : g_at w a e H1 := by
  cases e with
  | inl x =>
    obtain ⟨cell, h1, h2⟩ := h
    exact ⟨cell, by rw [hq]; exact h1, h2⟩
  | inr o =>
    obtain ⟨cell, r, h1, h2⟩ := h
    exact ⟨cell, r, by rw [hq]; exact h1, h2⟩
theorem g_at.lt {w : g_W} {a : Nat} {e : g_E} {H : Heap} (h : g_at w a e H) : a < H.size := by
  cases e with
  | inl x =>
    obtain ⟨cell, h1, h2⟩ := h
    exact (Array.getElem?_eq_some_iff.mp h1).1
  | inr o =>
    obtain ⟨cell, r, h1, h2⟩ := h
    exact (Array.getElem?_eq_some_iff.mp h1).1
theorem g_R.up {w : g_W} {G : g_H} {H H1 : Heap} {a : Nat} {t : g_T} {e : g_E} (h : g_R w G H) (he : g_at w a e H1) (ht : t.1 ≠ 0 → g_b w ≤ a) (oq : ∀ q : Nat, q < H.size → q ≠ a → H1[q]? = H[q]?) : g_R w (g_up G a (t, e)) H1 := by
  intro b t' e' hb
  by_cases hba : b = a
  · subst hba
    rw [g_up_s] at hb
    cases hb
    exact ⟨he, ht⟩
  · rw [g_up_n hba] at hb
    have h1 := h b t' e' hb
    exact ⟨h1.1.kept (oq b h1.1.lt hba), h1.2⟩
theorem g_R.kept {w : g_W} {G : g_H} {H H1 : Heap} (h : g_R w G H) (oq : ∀ q : Nat, q < H.size → H1[q]? = H[q]?) : g_R w G H1 :=
  fun b t e hb => ⟨(h b t e hb).1.kept (oq b (h b t e hb).1.lt), (h b t e hb).2⟩
theorem g_R.fresh {w : g_W} {G : g_H} {H : Heap} (h : g_R w G H) {a : Nat} (ha : H.size ≤ a) : G a = none := by
  cases hg : G a with
  | none => rfl
  | some x => exact absurd (h a x.1 x.2 hg).1.lt (by omega)
theorem g_vm.none {w : g_W} {a : Nat} {cell : Cell} (h : g_vm w a cell) (hb : g_b w ≤ a) : cell.vm = .none := by
  rcases h with h | ⟨h, -⟩
  · exact h
  · omega
theorem g_vm.known {w : g_W} {a : Nat} {cell : Cell} (h : g_vm w a cell) : cell.vm ≠ .unknown ∧ cell.vm.isStatics = false := by
  rcases h with h | ⟨-, h⟩
  · rw [h]; exact ⟨(fun q => by cases q), rfl⟩
  · exact h
/-! words that don't ride in lists -/
def g_AO2 (t : FieldType) (U : State) : Prop := (Cond.arrayOver (.array t)).before #[] U = true
theorem g_AO2.moved {t : FieldType} {u U : State} (hvm : u.vm.Alike U.vm) (h : g_AO2 t u) : g_AO2 t U := by
  have h0 : ∃ comp c k, u.vm.findClass (FieldType.array t).toString = some comp ∧ (u.vm.classes.findIdx? fun x => match x.kind with | .array component _ => component == comp | _ => false) = some c ∧ u.vm.classes[c]? = some k ∧ k.kind = .array comp (.array t) ∧ u.vm.findClass ("[" ++ (FieldType.array t).toString) = some c := by
    unfold g_AO2 Cond.before at h
    simp only [Cond.holds, Cond.value, beq_iff_eq] at h
    cases hc : u.vm.findClass (FieldType.array t).toString with
    | none => simp [hc] at h
    | some comp =>
      simp only [hc, Option.bind_some, Option.bind_eq_some_iff, Option.map_eq_some_iff] at h
      obtain ⟨c, hi, k, hk, hb⟩ := h
      obtain ⟨hlt, hp, -⟩ := Array.findIdx?_eq_some_iff_getElem.mp hi
      have hkk : u.vm.classes[c] = k := (Array.getElem?_eq_some_iff.mp hk).2
      rw [hkk] at hp
      cases hkind : k.kind with
      | array component ty =>
        rw [hkind] at hb hp
        simp at hb hp
        exact ⟨comp, c, k, rfl, hi, hk, by rw [hkind, hp, hb.1], hb.2⟩
      | _ => rw [hkind] at hb; simp at hb
  obtain ⟨comp, c, k, h1, h2, h3, h4, h5⟩ := h0
  obtain ⟨k', hk', he⟩ := hvm.2.2 _ _ h3
  have hi : (U.vm.classes.findIdx? fun (x : Class) => match x.kind with | .array component _ => component == comp | _ => false) = some c := by
    have e9 := va_idx_bare U.vm comp
    have e8 := va_idx_bare u.vm comp
    have e7 : U.vm.bare = u.vm.bare := by first | exact hvm.bare_eq | exact hvm.bare_eq.symm
    rw [e7] at e9
    exact (e9.symm.trans e8).trans h2
  have hkind : k'.kind = .array comp (.array t) := by rw [he]; exact h4
  have f1 : U.vm.findClass (FieldType.array t).toString = some comp := by rw [hvm.findClass]; exact h1
  have f2 : U.vm.findClass ("[" ++ (FieldType.array t).toString) = some c := by rw [hvm.findClass]; exact h5
  unfold g_AO2 Cond.before Cond.holds
  simp only [Cond.value]
  rw [f1, Option.bind_some]
  refine (congrArg (fun o : Option Nat => (o.bind (fun c => (U.vm.classes[c]?).map fun (k : Class) => match k.kind with | .array _ ty => decide (ty = FieldType.array t) && decide (U.vm.findClass ("[" ++ (FieldType.array t).toString) = some c) | _ => false) == some true)) hi).trans ?_
  simp [hk', hkind, f2]
def g_N (U : State) : Prop :=
  (∀ a i b n d h, Cond.fieldLinkNest a i b n d h ∈ lw_tbl → va_Nw (.fieldLinkNest a i b n d h) U) ∧
  (∀ a i x h, Cond.methodLinkNest a i x h ∈ lw_tbl → va_Nw (.methodLinkNest a i x h) U) ∧
  (∀ C T, Cond.castable C T ∈ lw_tbl → va_Nw (.castable C T) U) ∧
  (∀ x, Cond.declares x ∈ lw_tbl → va_Nw (.declares x) U) ∧
  (∀ C, Cond.arrayOver (.object C) ∈ lw_tbl → va_AO C U) ∧
  (∀ C x y, (x.cls ≠ "java/lang/invoke/MethodHandle" ∧ x.cls ≠ "java/lang/invoke/VarHandle") → Cond.declares x ∈ lw_tbl → Cond.interfaceMethod x.cls x.cls x.name x.desc ∈ lw_tbl → Cond.publicMethod y ∈ lw_tbl → Cond.unhidden C x.name x.desc ∈ lw_tbl → Cond.castable C x.cls ∈ lw_tbl → va_Fw C x y U) ∧
  (∀ C T, Cond.not (.castable C T) ∈ g_nots → va_Nc C T U) ∧
  (∀ t, Cond.arrayOver (.array t) ∈ lw_tbl → g_AO2 t U)
theorem g_N.moved {u U : State} (hW : u.WarmedH U.vm) (h : g_N u) : g_N U := by
  obtain ⟨h1, h2, h3, h4, h5, h6, h7, h8⟩ := h
  exact ⟨fun a i b n d h q => (h1 a i b n d h q).warmF hW, fun a i x h q => (h2 a i x h q).warmM hW, fun C T q => (h3 C T q).warmC hW, fun x q => (h4 x q).warmD hW, fun C q => (h5 C q).moved hW.alike, fun C x y hx q1 q2 q3 q4 q5 => (h6 C x y hx q1 q2 q3 q4 q5).moved hx hW.alike, fun C T q => (h7 C T q).moved hW.alike, fun t q => (h8 t q).moved hW.alike⟩
theorem g_N.same {u U : State} (hv : u.vm = U.vm) (h : g_N u) : g_N U := g_N.moved (by rw [← hv]; exact State.WarmedH.refl u) h
def g_Ar (w : g_W) (U : State) : Prop := ∀ (t : Nat) (ty : FieldType), g_fa[t]? = some ty → ∃ (k : Class) (comp : ClassId), U.vm.classes[w.2.1 t]? = some k ∧ k.kind = .array comp ty
theorem g_Ar.moved {w : g_W} {u U : State} (hvm : u.vm.Alike U.vm) (h : g_Ar w u) : g_Ar w U := by
  intro t ty ht
  obtain ⟨k, comp, h1, h2⟩ := h t ty ht
  obtain ⟨k', hk', he⟩ := hvm.2.2 _ _ h1
  exact ⟨k', comp, hk', by rw [he]; exact h2⟩
def g_K (w : g_W) (U : State) : Prop := va_K w.1 g_cl (g_tys w) U ∧ g_N U ∧ g_Ar w U
/-- statics: what they hold; and the two of Throwable -/
def g_S (w : g_W) (U : State) (H : Heap) : Prop :=
  (∀ (k : Nat) (q : String × String × String × (Nat ⊕ Value)), g_st[k]? = some q → va_Z q.1 q.2.1 q.2.2.1 (match q.2.2.2 with | .inl j => .ref (g_c w j) | .inr v => v) (g_A w) U H) ∧
  vx_Zq Bundle.tN "UNASSIGNED_STACK" Bundle.steD (g_A w) U H ∧ vx_Zq Bundle.tN "SUPPRESSED_SENTINEL" Bundle.listD (g_A w) U H
theorem g_S.moved {w : g_W} {u U : State} {H : Heap} (hvm : u.vm.Alike U.vm) (h : g_S w u H) : g_S w U H :=
  ⟨fun k q hk => (h.1 k q hk).moved hvm, h.2.1.moved hvm, h.2.2.moved hvm⟩
theorem g_S.kept {w : g_W} {u : State} {H H1 : Heap} (h : g_S w u H) (hq : ∀ a : Nat, a < H.size → ¬ g_A w a → H1[a]? = H[a]?) : g_S w u H1 :=
  ⟨fun k q hk => (h.1 k q hk).kept hq, h.2.1.kept hq, h.2.2.kept hq⟩
/-- literals (own class, entry, text, place of its address), and the mirror of Object[] -/
def g_Li (w : g_W) (U : State) : Prop := (∀ (k : Nat) (q : String × Nat × String × Nat), g_lits[k]? = some q → vk_R q.1 q.2.1 q.2.2.1 (g_c w q.2.2.2) U) ∧ va_Mi "[Ljava/lang/Object;" (g_c w g_mir) U
theorem g_Li.moved {w : g_W} {u U : State} (hW : u.WarmedH U.vm) (h : g_Li w u) : g_Li w U := ⟨fun k q hk => (h.1 k q hk).warm hW, h.2.moved hW.alike⟩
theorem g_K.moved {w : g_W} {u U : State} (hW : u.WarmedH U.vm) (h : g_K w u) : g_K w U := by
  obtain ⟨h1, h2, h3⟩ := h
  exact ⟨h1.moved hW.alike, h2.moved hW, h3.moved hW.alike⟩
/-! locals: the first entry of a slot counts; none: nothing is known -/
def g_lk : g_L → Nat → Option Value
  | [], _ => none
  | q :: t, k => bif Nat.beq q.1 k then q.2 else g_lk t k
def g_Lh (lsA : Array Slot) (nL : Nat) (ls : g_L) : Prop := lsA.size = nL ∧ lv_wf lsA ∧ ∀ (k : Nat) (v : Value), g_lk ls k = some v → lsA[k]? = some (.val v)
def g_full (lsA : Array Slot) : List (Nat × Value) := (List.range lsA.size).filterMap (fun k => match (lsA[k]? : Option Slot) with | some (Slot.val v) => some (k, v) | _ => none)
theorem g_full_mem {lsA : Array Slot} {k : Nat} {v : Value} : (k, v) ∈ g_full lsA ↔ lsA[k]? = some (.val v) := by
  unfold g_full
  rw [List.mem_filterMap]
  constructor
  · rintro ⟨j, -, h⟩
    split at h
    · next v' hv => cases h; exact hv
    · cases h
  · intro h
    exact ⟨k, List.mem_range.mpr (Array.getElem?_eq_some_iff.mp h).1, by rw [h]⟩
theorem g_Lh.full {lsA : Array Slot} {nL : Nat} {ls : g_L} (h : g_Lh lsA nL ls) : lv_has lsA nL (g_full lsA) := ⟨h.1, h.2.1, fun _ hq => g_full_mem.mp hq⟩
/-- one-word store at i: what stays -/
theorem g_Lh.set1 {lsA lsB : Array Slot} {nL i : Nat} {x : Value} {ls : g_L} (h : g_Lh lsA nL ls) (hB : lv_has lsB nL ((i, x) :: (g_full lsA).filter (fun q => !(q.1 == i) && !(q.1 + 1 == i && q.2.category == 2)))) (hc : ∀ v, g_lk ls (i - 1) = some v → 0 < i → (v.category == 2) = false) : g_Lh lsB nL ((i, some x) :: ls) := by
  refine ⟨hB.1, hB.2.1, fun k v hk => ?_⟩
  unfold g_lk at hk
  cases hb : Nat.beq i k with
  | true =>
    have hik := Nat.eq_of_beq_eq_true hb
    rw [hb] at hk
    subst hik
    have hk' : some x = some v := hk
    cases hk'
    exact hB.2.2 _ List.mem_cons_self
  | false =>
    have hik := Nat.ne_of_beq_eq_false hb
    rw [hb] at hk
    have hk' : g_lk ls k = some v := hk
    refine hB.2.2 (k, v) (List.mem_cons_of_mem _ (List.mem_filter.mpr ⟨g_full_mem.mpr (h.2.2 k v hk'), ?_⟩))
    have h1 : (k == i) = false := by simpa using fun e => hik e.symm
    by_cases h2 : k + 1 = i
    · subst h2
      have := hc v (by simpa using hk') (by omega)
      simp [this]
    · simp [h2, Ne.symm hik]
/-- two-word store at i -/
theorem g_Lh.set2 {lsA lsB : Array Slot} {nL i : Nat} {x : Value} {ls : g_L} (h : g_Lh lsA nL ls) (hB : lv_has lsB nL ((i, x) :: (g_full lsA).filter (fun q => !(q.1 == i) && (!(q.1 == i + 1) && !(q.1 + 1 == i && q.2.category == 2))))) (hc : ∀ v, g_lk ls (i - 1) = some v → 0 < i → (v.category == 2) = false) : g_Lh lsB nL ((i, some x) :: (i + 1, none) :: ls) := by
  refine ⟨hB.1, hB.2.1, fun k v hk => ?_⟩
  unfold g_lk at hk
  cases hb : Nat.beq i k with
  | true =>
    have hik := Nat.eq_of_beq_eq_true hb
    rw [hb] at hk
    subst hik
    have hk' : some x = some v := hk
    cases hk'
    exact hB.2.2 _ List.mem_cons_self
  | false =>
    have hik := Nat.ne_of_beq_eq_false hb
    rw [hb] at hk
    have hk' : g_lk ((i + 1, none) :: ls) k = some v := hk
    unfold g_lk at hk'
    cases hb2 : Nat.beq (i + 1) k with
    | true => rw [hb2] at hk'; cases hk'
    | false =>
      have hik2 := Nat.ne_of_beq_eq_false hb2
      rw [hb2] at hk'
      have hk'' : g_lk ls k = some v := hk'
      refine hB.2.2 (k, v) (List.mem_cons_of_mem _ (List.mem_filter.mpr ⟨g_full_mem.mpr (h.2.2 k v hk''), ?_⟩))
      by_cases h2 : k + 1 = i
      · subst h2
        have := hc v (by simpa using hk'') (by omega)
        simp [this, Ne.symm hik2]
      · simp [h2, Ne.symm hik, Ne.symm hik2]
theorem g_Lh.mask {lsA : Array Slot} {nL i : Nat} {ls : g_L} (h : g_Lh lsA nL ls) : g_Lh lsA nL ((i, none) :: ls) := by
  refine ⟨h.1, h.2.1, fun k v hk => ?_⟩
  unfold g_lk at hk
  cases hb : Nat.beq i k with
  | true => rw [hb] at hk; cases hk
  | false => rw [hb] at hk; exact h.2.2 k v hk
/-- a clean list out of another: every entry by rfl -/
def g_all (f : Nat → Option Value) : List (Nat × Value) → Prop
  | [] => True
  | q :: t => f q.1 = some q.2 ∧ g_all f t
def g_ls (l : List (Nat × Value)) : g_L := l.map (fun q => (q.1, some q.2))
theorem g_ls_lk {f : Nat → Option Value} : ∀ {l : List (Nat × Value)}, g_all f l → ∀ (k : Nat) (v : Value), g_lk (g_ls l) k = some v → f k = some v
  | [], _, k, v, h => by cases h
  | q :: t, ha, k, v, h => by
    have h' : (bif Nat.beq q.1 k then some q.2 else g_lk (g_ls t) k) = some v := h
    cases hb : Nat.beq q.1 k with
    | true => rw [hb] at h'; cases h'; rw [← Nat.eq_of_beq_eq_true hb]; exact ha.1
    | false => rw [hb] at h'; exact g_ls_lk ha.2 k v h'
theorem g_Lh.sub {lsA : Array Slot} {nL : Nat} {ls : g_L} (h : g_Lh lsA nL ls) {l : List (Nat × Value)} (ha : g_all (g_lk ls) l) : g_Lh lsA nL (g_ls l) := ⟨h.1, h.2.1, fun k v hk => h.2.2 k v (g_ls_lk ha k v hk)⟩
/-! the judgement -/
def g_rm (d mc ms : Nat) : Room := { frames := d, cells := mc, slots := ms, locals := 40 * d + 60 }
def g_wd (M : g_M) : Cond := match M.2.2.2.2 with
  | none => .code M.1 M.2.1 M.2.2.1 M.2.2.2.1
  | some hh => .codeWith M.1 M.2.1 M.2.2.1 M.2.2.2.1 hh
def g_hh (M : g_M) : List (Nat × Nat × Nat × Nat) := match M.2.2.2.2 with
  | none => []
  | some hh => hh
abbrev g_ws (M : g_M) : List Cond := g_wd M :: lw_all
def g_Pc (w : g_W) (As : List Value) (G : g_H) : Array Value → State → Prop := fun v U => v = As.toArray ∧ g_b w ≤ U.heap.size ∧ g_K w U ∧ g_Li w U ∧ g_S w U U.heap ∧ g_R w G U.heap
def g_Qc (w : g_W) (Q : g_Q) : Array Value → State → Outcome → State → Prop := fun _ st o t => ∃ (v : Option Value) (G' : g_H), o = .returned v ∧ Q (.inl v) G' ∧ g_R w G' t.heap ∧ va_F (g_A w) st t
def g_XC (w : g_W) (Q : g_Q) : Addr → String → State → State → Prop := fun q E st t => ∃ G' : g_H, Q (.inr (E, q)) G' ∧ g_R w G' t.heap ∧ va_F (g_A w) st t
def g_Met (w : g_W) (l : Launch) (M : g_M) (d mc ms : Nat) (As : List Value) (G : g_H) (Q : g_Q) : Prop := l.stackTraces = false → gx_Met l M.1 (g_ws M) (g_rm d mc ms) (g_Pc w As G) (g_Qc w Q) (g_XC w Q) mc ms (g_A w)
def g_Fx (l : Launch) (w : g_W) (M : g_M) (d : Nat) (p : Program) (R : Room) (s : State) (m : MethodId) (args : Array Value) (meth : Method) (c : Code) : Prop :=
  p.tables.exec = Jvm.exec ∧ c.code = M.2.1 ∧ c.maxLocals = M.2.2.1 ∧ meth.sig.returnType = M.2.2.2.1 ∧ c.exceptionTable.toList = tableOf (g_hh M) ∧ meth.locks = false ∧ meth.name = M.1.name ∧ s.vm.findClass M.1.cls = some m.cls ∧ (∀ x ∈ lw_all, x.before args s = true) ∧ (d ≤ R.frames ∧ 40 * d + 60 ≤ R.locals) ∧ g_K w s ∧ g_Li w s ∧ g_S w s s.heap ∧ g_b w ≤ s.heap.size ∧ l.stackTraces = false
def g_Fb (mc ms : Nat) (R : Room) (cells slots mcT msT : Nat) : Prop := cells + mc ≤ mcT ∧ mcT ≤ R.cells ∧ slots + ms ≤ msT ∧ msT ≤ R.slots
def g_Fh (w : g_W) (s : State) (G : g_H) (H : Heap) (locs : List Loc) : Prop := g_R w G H ∧ va_S (g_A w) s.heap H locs
def g_RF (w : g_W) (l : Launch) (M : g_M) (d mc ms pc : Nat) (ls : g_L) (st : List Value) (G : g_H) (Q : g_Q) : Prop :=
  ∀ (p : Program) (e : Env) (R : Room) (s : State) (m : MethodId) (args : Array Value) (below : List Frame) (meth : Method) (c : Code) (H : Heap) (locs : List Loc) (cells slots mcT msT : Nat) (lsA : Array Slot),
    g_Fx l w M d p R s m args meth c → g_Fb mc ms R cells slots mcT msT → g_Fh w s G H locs → g_Lh lsA M.2.2.1 ls →
    W p l e R s m args below meth c H locs cells slots (gx_MQ below (g_Qc w Q) (g_XC w Q) args s mcT msT (g_A w)) (F0 m pc lsA st)
/-- q of class E is thrown at pc -/
def g_RX (w : g_W) (l : Launch) (M : g_M) (d mc ms pc : Nat) (ls : g_L) (G : g_H) (Q : g_Q) (E : String) (q : Nat) : Prop :=
  ∀ (p : Program) (e : Env) (R : Room) (s : State) (m : MethodId) (args : Array Value) (below : List Frame) (meth : Method) (c : Code) (H : Heap) (locs : List Loc) (cells slots mcT msT : Nat) (lsA : Array Slot) (st : List Value),
    g_Fx l w M d p R s m args meth c → g_Fb mc ms R cells slots mcT msT → g_Fh w s G H locs → g_Lh lsA M.2.2.1 ls → (∃ ce : Cell, H[q]? = some ce ∧ ce.vm = .none ∧ s.vm.findClass E = some ce.cls) →
    vx_W p l e R s m args below meth c H locs cells slots (gx_MQ below (g_Qc w Q) (g_XC w Q) args s mcT msT (g_A w)) (F0 m pc lsA st) q
