/-! rows of the judgement: calls, ends, throws, what is made -/
set_option maxRecDepth 100000
theorem g_Pc_blind {w : g_W} {As : List Value} {G : g_H} : FrameBlind (g_Pc w As G) := fun _ U _ _ h => ⟨h.1, h.2.1, ⟨va_K.moved (Vm.Alike.refl U.vm) h.2.2.1.1, h.2.2.1.2.1.same rfl, h.2.2.1.2.2.moved (Vm.Alike.refl U.vm)⟩, ⟨fun k q hk => (h.2.2.2.1.1 k q hk).same rfl, h.2.2.2.1.2.moved (Vm.Alike.refl U.vm)⟩, h.2.2.2.2.1.moved (Vm.Alike.refl U.vm), h.2.2.2.2.2⟩
/-- what a method must be to be called: nothing odd, n parameters, few locals -/
def g_ok (M : g_M) (n : Nat) : Prop := (M.1.cls ≠ "java/lang/invoke/MethodHandle" ∧ M.1.cls ≠ "java/lang/invoke/VarHandle") ∧ (parseMethodDescriptor M.1.desc).map (fun d => d.parameters.length) = some n ∧ M.2.2.1 ≤ 21 ∧ plainName M.1.cls = true ∧ goodWord (g_wd M) = true
theorem g_ok_len {M : g_M} {n : Nat} (h : g_ok M n) : ∀ sig, parseMethodDescriptor M.1.desc = some sig → n = sig.parameters.length := by
  intro sig hs
  have h2 := h.2.1
  rw [hs] at h2
  exact (Option.some.inj h2).symm
section GR3
variable {w : g_W} {l : Launch} {M : g_M} {d mc ms pc : Nat} {ls : g_L} {st : List Value} {G : g_H} {Q : g_Q}
section AFT
variable {p : Program} {e : Env} {R : Room} {s : State} {m : MethodId} {args : Array Value} {below : List Frame} {meth : Method} {c : Code} {H : Heap} {locs : List Loc} {cells slots mcT msT : Nat} {lsA : Array Slot}
theorem g_back {M2 : g_M} {n d2 mc2 ms2 len : Nat} {As : List Value} {Q2 : g_Q} (F : g_Fx l w M d p R s m args meth c) (hM : g_Met w l M2 d2 mc2 ms2 As G Q2) (hok : g_ok M2 n) (hin : Cond.initialized M2.1.cls ∈ lw_all) (hwd : g_wd M2 ∈ lw_all) (hdd : d2 < d) :
    vx_Back l R p e below s args M2.1 len 8 (PreOf R mc2 ms2 (g_Pc w As G)) (PostOf (g_Qc w Q2) mc2 ms2 (g_A w)) (fun A a q B => vx_Post (g_XC w Q2 q) mc2 ms2 (g_A w) A a q B) := by
  have hrm := F.rm
  have hws : ∀ x ∈ g_ws M2, ∀ a' U, s.WarmedH U.vm → x.before a' U = true := by
    intro x hx a' U hW
    have hall : x ∈ lw_all := by
      rcases List.mem_cons.mp hx with e9 | e9
      · rw [e9]; exact hwd
      · exact e9
    exact pay_in (big := lw_all) (ws := lw_all) F.ts lw_self x hall a' U hW
  have hini : ∀ a' U, s.WarmedH U.vm → (Cond.initialized M2.1.cls).before a' U = true := fun a' U hW => pay_in (big := lw_all) (ws := lw_all) F.ts lw_self _ hin a' U hW
  obtain ⟨y, bytes, maxL, ret, hh⟩ := M2
  have hL : maxL ≤ 21 := hok.2.2.1
  cases hh with
  | none => exact gx_back (bytes := bytes) (maxL := maxL) (ret := ret) (hM F.tr) g_Pc_blind rfl rfl (by show d2 + 1 ≤ R.frames; omega) (by show 8 + (maxL + 11) + (40 * d2 + 60) ≤ R.locals; omega) hws List.mem_cons_self hini
  | some hh => exact gx_backW (bytes := bytes) (maxL := maxL) (ret := ret) (hh := hh) (hM F.tr) g_Pc_blind rfl rfl (by show d2 + 1 ≤ R.frames; omega) (by show 8 + (maxL + 11) + (40 * d2 + 60) ≤ R.locals; omega) hws List.mem_cons_self hini
theorem g_pre {d2 mc2 ms2 : Nat} {As : List Value} {T : State} {vm₁ : Vm} (F : g_Fx l w M d p R s m args meth c) (B : g_Fb mc ms R cells slots mcT msT) (h : g_Fh w s G H locs) (hT : T.heap = H) (hW : s.WarmedH vm₁) (h1 : mc2 ≤ mc) (h2 : ms2 ≤ ms) : PreOf R mc2 ms2 (g_Pc w As G) ⟨T.setVm vm₁, locs, cells, slots⟩ As.toArray := by
  obtain ⟨b1, b2, b3, b4⟩ := B
  have hh : (T.setVm vm₁).heap = H := hT
  refine ⟨by show cells + mc2 ≤ R.cells; omega, by show slots + ms2 ≤ R.slots; omega, rfl, ?_, F.K.moved hW, F.Li.moved hW, ?_, ?_⟩
  · show g_b w ≤ T.heap.size
    rw [hT]
    exact Nat.le_trans F.bs h.2.1
  · show g_S w (T.setVm vm₁) (T.setVm vm₁).heap
    rw [hh]
    exact (F.S.kept h.2.2.1).moved hW.alike
  · show g_R w G (T.setVm vm₁).heap
    rw [hh]
    exact h.1
/-- behind a call -/
theorem g_after {Q2 : g_Q} {mc2 ms2 len : Nat} {a : Array Value} {T : State} {rest stk : List Value} (hT : T.heap = H) (F : g_Fx l w M d p R s m args meth c) (B : g_Fb mc ms R cells slots mcT msT) (h : g_Fh w s G H locs) (hl : g_Lh lsA M.2.2.1 ls) (h1 : mc2 ≤ mc) (h2 : ms2 ≤ ms)
    (hx : (∃ (v : Option Value) (vm₁ : Vm) (B : Pt), s.WarmedH vm₁ ∧ Stand p l e R s m args below meth c B.U B.locs B.cells B.slots ∧ PostOf (g_Qc w Q2) mc2 ms2 (g_A w) ⟨T.setVm vm₁, locs, cells, slots⟩ a v B ∧
      ∀ target, Steps p.tables e below (B.U.setTop { F0 m pc lsA stk with pc := pc + len, stack := v.toList ++ rest }) target → Steps p.tables e below (T.setTop (F0 m pc lsA stk)) target) ∨
      (∃ (q : Addr) (vm₁ : Vm) (B : Pt), s.WarmedH vm₁ ∧ Stand p l e R s m args below meth c B.U B.locs B.cells B.slots ∧ vx_Post (g_XC w Q2 q) mc2 ms2 (g_A w) ⟨T.setVm vm₁, locs, cells, slots⟩ a q B ∧
      Steps p.tables e below (T.setTop (F0 m pc lsA stk)) ((B.U.setTop { F0 m pc lsA stk with stack := rest }).pushFrame (.throwing q))))
    (kn : ∀ (v : Option Value) (G' : g_H), Q2 (.inl v) G' → g_RF w l M d (mc - mc2) (ms - ms2) (pc + len) ls (v.toList ++ rest) G' Q)
    (kx : ∀ (E : String) (q : Nat) (G' : g_H), Q2 (.inr (E, q)) G' → g_RX w l M d (mc - mc2) (ms - ms2) pc ls G' Q E q) :
    ∃ t, Steps p.tables e below (T.setTop (F0 m pc lsA stk)) t ∧ gx_MQ below (g_Qc w Q) (g_XC w Q) args s mcT msT (g_A w) t := by
  obtain ⟨b1, b2, b3, b4⟩ := B
  have B' : g_Fb (mc - mc2) (ms - ms2) R (cells + mc2) (slots + ms2) mcT msT := ⟨by omega, b2, by omega, b4⟩
  have key : ∀ (vm₁ : Vm) (g' : JFrame) (mk : MethodId) (t : State) (L : List Loc), va_F (g_A w) ((T.setVm vm₁).calling g' mk a) t → (∀ q ∈ L, g_A w q.base) → va_S (g_A w) s.heap t.heap (locs ++ L) := by
    intro vm₁ g' mk t L hF hL
    have hF1 : H.size ≤ t.heap.size := by rw [← hT]; exact hF.1
    have hF2 : ∀ q : Nat, q < H.size → ¬ g_A w q → t.heap[q]? = H[q]? := by rw [← hT]; exact hF.2
    refine ⟨Nat.le_trans h.2.1 hF1, fun q q1 q2 => (hF2 q (Nat.lt_of_lt_of_le q1 h.2.1) q2).trans (h.2.2.1 q q1 q2), fun q hq => ?_⟩
    rcases List.mem_append.mp hq with z | z
    · exact h.2.2.2 q z
    · exact hL q z
  rcases hx with ⟨v, vm₁, ⟨U', l2, c2, s2⟩, hW₁, X', hpost, stp⟩ | ⟨q, vm₁, ⟨U', l2, c2, s2⟩, hW₁, X', hpost, stp⟩
  · obtain ⟨g', mk, t, L, e1, e2, hq, e3, hL, e4, e5⟩ := hpost
    dsimp only [Pt.U, Pt.locs, Pt.cells, Pt.slots] at X' e1 e2 e3 e4 e5 stp
    subst e3; subst e4; subst e5
    obtain ⟨v', G', hv, hQ, hR, hF⟩ := hq
    cases hv
    obtain ⟨tt, a1, b1⟩ := kn v G' hQ p e R s m args below meth c U'.heap (locs ++ L) (cells + mc2) (slots + ms2) mcT msT lsA F B' ⟨by rw [e1]; exact hR, by rw [e1]; exact key vm₁ g' mk t L hF hL⟩ hl U' rfl X'
    exact ⟨tt, stp tt a1, b1⟩
  · obtain ⟨g', mk, t, L, E, ce, e1, e2, hq, h7, h8, h9, e3, hL, e4, e5⟩ := hpost
    dsimp only [Pt.U, Pt.locs, Pt.cells, Pt.slots] at X' e1 e2 e3 e4 e5 stp h9
    subst e3; subst e4; subst e5
    obtain ⟨G', hQ, hR, hF⟩ := hq
    obtain ⟨tt, a1, b1⟩ := kx E q G' hQ p e R s m args below meth c U'.heap (locs ++ L) (cells + mc2) (slots + ms2) mcT msT lsA rest F B' ⟨by rw [e1]; exact hR, by rw [e1]; exact key vm₁ g' mk t L hF hL⟩ hl ⟨ce, by rw [e1]; exact h7, h8, vx_cls (T := T) hW₁ h9⟩ U' rfl X'
    exact ⟨tt, stp.trans a1, b1⟩
end AFT
theorem gr_callS {M2 : g_M} {idx d2 mc2 ms2 : Nat} {As stk : List Value} {Q2 : g_Q} (hd : decode M.2.1 pc = .ok (.invokestatic idx, 3)) (hM : g_Met w l M2 d2 mc2 ms2 (As) G Q2) (hok : g_ok M2 As.length) (hlink : Cond.methodLink M.1.cls idx M2.1 ∈ lw_all) (hstat : Cond.static M2.1 ∈ lw_all) (hin : Cond.initialized M2.1.cls ∈ lw_all) (hwd : g_wd M2 ∈ lw_all) (hs : As.reverse ++ st = stk) (h8 : Nat.ble (st.map Value.category).sum 8 = true) (hdd : d2 < d) (h1 : mc2 ≤ mc) (h2 : ms2 ≤ ms)
    (kn : ∀ (v : Option Value) (G' : g_H), Q2 (.inl v) G' → g_RF w l M d (mc - mc2) (ms - ms2) (pc + 3) ls (v.toList ++ st) G' Q) (kx : ∀ (E : String) (q : Nat) (G' : g_H), Q2 (.inr (E, q)) G' → g_RX w l M d (mc - mc2) (ms - ms2) pc ls G' Q E q) : g_RF w l M d mc ms pc ls stk G Q := by
  intro p e R s m args below meth c H locs cells slots mcT msT lsA F B h hl T hT X
  subst hs
  have hmon := lv_room (m := m) (pc := pc) (ls := lsA) (rest := As.reverse ++ st) (Nat.le_of_ble_eq_true h8)
  have hbk := g_back (p := p) (e := e) (below := below) (len := 3) F hM hok hin hwd hdd
  have hcode : (g_wd M2).before args s = true := F.ts _ hwd
  have hlen := g_ok_len hok
  have hpre : ∀ vm₁, s.WarmedH vm₁ → PreOf R mc2 ms2 (g_Pc w (As) G) ⟨T.setVm vm₁, locs, cells, slots⟩ (As).toArray := fun vm₁ hW => g_pre (d2 := d2) F B h hT hW h1 h2
  refine g_after (len := 3) (a := (As).toArray) hT F B h hl h1 h2 ?_ kn kx
  obtain ⟨y, bytes, maxL, ret, hh⟩ := M2
  cases hh with
  | none => exact vx_callS X F.1 (bytes := bytes) (maxL := maxL) (ret := ret) F.own (F.ts _ hlink) (F.ts _ hstat) (F.ts _ hin) hcode hok.1 hbk (g := F0 m pc lsA (As.reverse ++ st)) rfl (hl.1.trans F.2.2.1.symm) (argsL := As) (rest := st) hlen rfl hmon (by rw [F.2.1]; exact hd) hpre
  | some hh => exact vx_callSX X F.1 (bytes := bytes) (maxL := maxL) (ret := ret) F.own (F.ts _ hlink) (F.ts _ hstat) (F.ts _ hin) hcode hok.1 hbk (g := F0 m pc lsA (As.reverse ++ st)) rfl (hl.1.trans F.2.2.1.symm) (argsL := As) (rest := st) hlen rfl hmon (by rw [F.2.1]; exact hd) hpre
theorem gr_callV {b : Nat} {M2 : g_M} {idx d2 mc2 ms2 : Nat} {As stk : List Value} {Q2 : g_Q} (hd : decode M.2.1 pc = .ok (.invokevirtual idx, 3)) (hM : g_Met w l M2 d2 mc2 ms2 (.ref b :: As) G Q2) (hok : g_ok M2 As.length) (hlink : Cond.methodLink M.1.cls idx M2.1 ∈ lw_all) (hinst : Cond.instanceMethod M2.1 ∈ lw_all) (hsel : Cond.selects M2.1.cls M2.1 M2.1 ∈ lw_all) (hin : Cond.initialized M2.1.cls ∈ lw_all) (hwd : g_wd M2 ∈ lw_all) {t : g_T} {ci : Nat} {fs : List Value} {r : vw_C} (hG : G b = some (t, .inr (ci, fs))) (hc : g_cl[ci]? = some r) (hrc : r.1 = M2.1.cls) (hs : As.reverse ++ .ref b :: st = stk) (h8 : Nat.ble (st.map Value.category).sum 8 = true) (hdd : d2 < d) (h1 : mc2 ≤ mc) (h2 : ms2 ≤ ms)
    (kn : ∀ (v : Option Value) (G' : g_H), Q2 (.inl v) G' → g_RF w l M d (mc - mc2) (ms - ms2) (pc + 3) ls (v.toList ++ st) G' Q) (kx : ∀ (E : String) (q : Nat) (G' : g_H), Q2 (.inr (E, q)) G' → g_RX w l M d (mc - mc2) (ms - ms2) pc ls G' Q E q) : g_RF w l M d mc ms pc ls stk G Q := by
  intro p e R s m args below meth c H locs cells slots mcT msT lsA F B h hl T hT X
  subst hs
  have hmon := lv_room (m := m) (pc := pc) (ls := lsA) (rest := As.reverse ++ .ref b :: st) (Nat.le_of_ble_eq_true h8)
  have hbk := g_back (p := p) (e := e) (below := below) (len := 3) F hM hok hin hwd hdd
  have hcode : (g_wd M2).before args s = true := F.ts _ hwd
  have hlen := g_ok_len hok
  have hpre : ∀ vm₁, s.WarmedH vm₁ → PreOf R mc2 ms2 (g_Pc w (.ref b :: As) G) ⟨T.setVm vm₁, locs, cells, slots⟩ (.ref b :: As).toArray := fun vm₁ hW => g_pre (d2 := d2) F B h hT hW h1 h2
  obtain ⟨cell, r', q1, q2, q3, q4, -⟩ := (h.1 b t _ hG).1
  cases Option.some.inj (q4.symm.trans hc)
  have hcls : s.vm.findClass M2.1.cls = some cell.cls := by rw [← hrc, q3]; exact (F.K.1.1 ci _ hc).2.1
  refine g_after (len := 3) (a := (.ref b :: As).toArray) hT F B h hl h1 h2 ?_ kn kx
  obtain ⟨y, bytes, maxL, ret, hh⟩ := M2
  cases hh with
  | none => exact vx_callV X F.1 (bytes := bytes) (maxL := maxL) (ret := ret) F.own (F.ts _ hlink) (F.ts _ hinst) (F.ts _ hsel) hcode hok.1 hbk (by rw [hT]; exact q1) q2.known.2 hcls (g := F0 m pc lsA (As.reverse ++ .ref b :: st)) rfl (hl.1.trans F.2.2.1.symm) (argsL := As) (rest := st) hlen rfl hmon (by rw [F.2.1]; exact hd) hpre
  | some hh => exact vx_callVX X F.1 (bytes := bytes) (maxL := maxL) (ret := ret) F.own (F.ts _ hlink) (F.ts _ hinst) (F.ts _ hsel) hcode hok.1 hbk (by rw [hT]; exact q1) q2.known.2 hcls (g := F0 m pc lsA (As.reverse ++ .ref b :: st)) rfl (hl.1.trans F.2.2.1.symm) (argsL := As) (rest := st) hlen rfl hmon (by rw [F.2.1]; exact hd) hpre
theorem gr_callI {b : Nat} {M2 : g_M} {idx d2 mc2 ms2 : Nat} {As stk : List Value} {Q2 : g_Q} (hd : decode M.2.1 pc = .ok (.invokespecial idx, 3)) (hM : g_Met w l M2 d2 mc2 ms2 (.ref b :: As) G Q2) (hok : g_ok M2 As.length) (hlink : Cond.methodLink M.1.cls idx M2.1 ∈ lw_all) (hinst : Cond.instanceMethod M2.1 ∈ lw_all) (hin : Cond.initialized M2.1.cls ∈ lw_all) (hwd : g_wd M2 ∈ lw_all) (hi0 : M2.1.name = "<init>") (hn0 : M2.2.2.2 = (none, none)) (hs : As.reverse ++ .ref b :: st = stk) (h8 : Nat.ble (st.map Value.category).sum 8 = true) (hdd : d2 < d) (h1 : mc2 ≤ mc) (h2 : ms2 ≤ ms)
    (kn : ∀ (v : Option Value) (G' : g_H), Q2 (.inl v) G' → g_RF w l M d (mc - mc2) (ms - ms2) (pc + 3) ls (v.toList ++ st) G' Q) (kx : ∀ (E : String) (q : Nat) (G' : g_H), Q2 (.inr (E, q)) G' → g_RX w l M d (mc - mc2) (ms - ms2) pc ls G' Q E q) : g_RF w l M d mc ms pc ls stk G Q := by
  intro p e R s m args below meth c H locs cells slots mcT msT lsA F B h hl T hT X
  subst hs
  have hmon := lv_room (m := m) (pc := pc) (ls := lsA) (rest := As.reverse ++ .ref b :: st) (Nat.le_of_ble_eq_true h8)
  have hbk := g_back (p := p) (e := e) (below := below) (len := 3) F hM hok hin hwd hdd
  have hcode : (g_wd M2).before args s = true := F.ts _ hwd
  have hlen := g_ok_len hok
  have hpre : ∀ vm₁, s.WarmedH vm₁ → PreOf R mc2 ms2 (g_Pc w (.ref b :: As) G) ⟨T.setVm vm₁, locs, cells, slots⟩ (.ref b :: As).toArray := fun vm₁ hW => g_pre (d2 := d2) F B h hT hW h1 h2
  refine g_after (len := 3) (a := (.ref b :: As).toArray) hT F B h hl h1 h2 ?_ kn kx
  obtain ⟨y, bytes, maxL, ret, hh⟩ := M2
  cases hn0
  exact vx_callI X F.1 (bytes := bytes) (maxL := maxL) F.own hi0 (F.ts _ hlink) (F.ts _ hinst) hcode hok.1 hbk (g := F0 m pc lsA (As.reverse ++ .ref b :: st)) rfl (hl.1.trans F.2.2.1.symm) (argsL := As) (rest := st) hlen rfl hmon (by rw [F.2.1]; exact hd) hpre
theorem gr_callIN {b : Nat} {M2 : g_M} {idx d2 mc2 ms2 : Nat} {As stk : List Value} {Q2 : g_Q} (hd : decode M.2.1 pc = .ok (.invokespecial idx, 3)) (hM : g_Met w l M2 d2 mc2 ms2 (.ref b :: As) G Q2) (hok : g_ok M2 As.length) {host : String} (hlink : Cond.methodLinkNest M.1.cls idx M2.1 host ∈ lw_tbl) (hinst : Cond.instanceMethod M2.1 ∈ lw_all) (hin : Cond.initialized M2.1.cls ∈ lw_all) (hwd : g_wd M2 ∈ lw_all) (hi0 : M2.1.name = "<init>") (hn0 : M2.2.2.2 = (none, none)) (hs : As.reverse ++ .ref b :: st = stk) (h8 : Nat.ble (st.map Value.category).sum 8 = true) (hdd : d2 < d) (h1 : mc2 ≤ mc) (h2 : ms2 ≤ ms)
    (kn : ∀ (v : Option Value) (G' : g_H), Q2 (.inl v) G' → g_RF w l M d (mc - mc2) (ms - ms2) (pc + 3) ls (v.toList ++ st) G' Q) (kx : ∀ (E : String) (q : Nat) (G' : g_H), Q2 (.inr (E, q)) G' → g_RX w l M d (mc - mc2) (ms - ms2) pc ls G' Q E q) : g_RF w l M d mc ms pc ls stk G Q := by
  intro p e R s m args below meth c H locs cells slots mcT msT lsA F B h hl T hT X
  subst hs
  have hmon := lv_room (m := m) (pc := pc) (ls := lsA) (rest := As.reverse ++ .ref b :: st) (Nat.le_of_ble_eq_true h8)
  have hbk := g_back (p := p) (e := e) (below := below) (len := 3) F hM hok hin hwd hdd
  have hcode : (g_wd M2).before args s = true := F.ts _ hwd
  have hlen := g_ok_len hok
  have hpre : ∀ vm₁, s.WarmedH vm₁ → PreOf R mc2 ms2 (g_Pc w (.ref b :: As) G) ⟨T.setVm vm₁, locs, cells, slots⟩ (.ref b :: As).toArray := fun vm₁ hW => g_pre (d2 := d2) F B h hT hW h1 h2
  refine g_after (len := 3) (a := (.ref b :: As).toArray) hT F B h hl h1 h2 ?_ kn kx
  obtain ⟨y, bytes, maxL, ret, hh⟩ := M2
  cases hn0
  exact vx_callIN X F.1 (bytes := bytes) (maxL := maxL) F.own hi0 (va_Nw.use rfl (F.K.2.1.2.1 _ _ _ _ hlink)) (F.ts _ hinst) hcode hok.1 hbk (g := F0 m pc lsA (As.reverse ++ .ref b :: st)) rfl (hl.1.trans F.2.2.1.symm) (argsL := As) (rest := st) hlen rfl hmon (by rw [F.2.1]; exact hd) hpre
theorem gr_callSN {M2 : g_M} {idx d2 mc2 ms2 : Nat} {As stk : List Value} {Q2 : g_Q} (hd : decode M.2.1 pc = .ok (.invokestatic idx, 3)) (hM : g_Met w l M2 d2 mc2 ms2 (As) G Q2) (hok : g_ok M2 As.length) (hn0 : M2.2.2.2.2 = none) {host : String} (hlink : Cond.methodLinkNest M.1.cls idx M2.1 host ∈ lw_tbl) (hstat : Cond.static M2.1 ∈ lw_all) (hin : Cond.initialized M2.1.cls ∈ lw_all) (hwd : g_wd M2 ∈ lw_all) (hs : As.reverse ++ st = stk) (h8 : Nat.ble (st.map Value.category).sum 8 = true) (hdd : d2 < d) (h1 : mc2 ≤ mc) (h2 : ms2 ≤ ms)
    (kn : ∀ (v : Option Value) (G' : g_H), Q2 (.inl v) G' → g_RF w l M d (mc - mc2) (ms - ms2) (pc + 3) ls (v.toList ++ st) G' Q) (kx : ∀ (E : String) (q : Nat) (G' : g_H), Q2 (.inr (E, q)) G' → g_RX w l M d (mc - mc2) (ms - ms2) pc ls G' Q E q) : g_RF w l M d mc ms pc ls stk G Q := by
  intro p e R s m args below meth c H locs cells slots mcT msT lsA F B h hl T hT X
  subst hs
  have hmon := lv_room (m := m) (pc := pc) (ls := lsA) (rest := As.reverse ++ st) (Nat.le_of_ble_eq_true h8)
  have hbk := g_back (p := p) (e := e) (below := below) (len := 3) F hM hok hin hwd hdd
  have hcode : (g_wd M2).before args s = true := F.ts _ hwd
  have hlen := g_ok_len hok
  have hpre : ∀ vm₁, s.WarmedH vm₁ → PreOf R mc2 ms2 (g_Pc w (As) G) ⟨T.setVm vm₁, locs, cells, slots⟩ (As).toArray := fun vm₁ hW => g_pre (d2 := d2) F B h hT hW h1 h2
  refine g_after (len := 3) (a := (As).toArray) hT F B h hl h1 h2 ?_ kn kx
  obtain ⟨y, bytes, maxL, ret, hh⟩ := M2
  cases hn0
  exact vx_callSN X F.1 (bytes := bytes) (maxL := maxL) (ret := ret) F.own (va_Nw.use rfl (F.K.2.1.2.1 _ _ _ _ hlink)) (F.ts _ hstat) (F.ts _ hin) hcode hok.1 hbk (g := F0 m pc lsA (As.reverse ++ st)) rfl (hl.1.trans F.2.2.1.symm) (argsL := As) (rest := st) hlen rfl hmon (by rw [F.2.1]; exact hd) hpre
theorem gr_callVN {b : Nat} {M2 : g_M} {idx d2 mc2 ms2 : Nat} {As stk : List Value} {Q2 : g_Q} (hd : decode M.2.1 pc = .ok (.invokevirtual idx, 3)) (hM : g_Met w l M2 d2 mc2 ms2 (.ref b :: As) G Q2) (hok : g_ok M2 As.length) (hn0 : M2.2.2.2.2 = none) {host : String} (hlink : Cond.methodLinkNest M.1.cls idx M2.1 host ∈ lw_tbl) (hinst : Cond.instanceMethod M2.1 ∈ lw_all) (hsel : Cond.selects M2.1.cls M2.1 M2.1 ∈ lw_all) (hin : Cond.initialized M2.1.cls ∈ lw_all) (hwd : g_wd M2 ∈ lw_all) {t : g_T} {ci : Nat} {fs : List Value} {r : vw_C} (hG : G b = some (t, .inr (ci, fs))) (hc : g_cl[ci]? = some r) (hrc : r.1 = M2.1.cls) (hs : As.reverse ++ .ref b :: st = stk) (h8 : Nat.ble (st.map Value.category).sum 8 = true) (hdd : d2 < d) (h1 : mc2 ≤ mc) (h2 : ms2 ≤ ms)
    (kn : ∀ (v : Option Value) (G' : g_H), Q2 (.inl v) G' → g_RF w l M d (mc - mc2) (ms - ms2) (pc + 3) ls (v.toList ++ st) G' Q) (kx : ∀ (E : String) (q : Nat) (G' : g_H), Q2 (.inr (E, q)) G' → g_RX w l M d (mc - mc2) (ms - ms2) pc ls G' Q E q) : g_RF w l M d mc ms pc ls stk G Q := by
  intro p e R s m args below meth c H locs cells slots mcT msT lsA F B h hl T hT X
  subst hs
  have hmon := lv_room (m := m) (pc := pc) (ls := lsA) (rest := As.reverse ++ .ref b :: st) (Nat.le_of_ble_eq_true h8)
  have hbk := g_back (p := p) (e := e) (below := below) (len := 3) F hM hok hin hwd hdd
  have hcode : (g_wd M2).before args s = true := F.ts _ hwd
  have hlen := g_ok_len hok
  have hpre : ∀ vm₁, s.WarmedH vm₁ → PreOf R mc2 ms2 (g_Pc w (.ref b :: As) G) ⟨T.setVm vm₁, locs, cells, slots⟩ (.ref b :: As).toArray := fun vm₁ hW => g_pre (d2 := d2) F B h hT hW h1 h2
  obtain ⟨cell, r', q1, q2, q3, q4, -⟩ := (h.1 b t _ hG).1
  cases Option.some.inj (q4.symm.trans hc)
  have hcls : s.vm.findClass M2.1.cls = some cell.cls := by rw [← hrc, q3]; exact (F.K.1.1 ci _ hc).2.1
  refine g_after (len := 3) (a := (.ref b :: As).toArray) hT F B h hl h1 h2 ?_ kn kx
  obtain ⟨y, bytes, maxL, ret, hh⟩ := M2
  cases hn0
  exact vx_callVN X F.1 (bytes := bytes) (maxL := maxL) (ret := ret) F.own (va_Nw.use rfl (F.K.2.1.2.1 _ _ _ _ hlink)) (F.ts _ hinst) (F.ts _ hsel) hcode hok.1 hbk (by rw [hT]; exact q1) q2.known.2 hcls (g := F0 m pc lsA (As.reverse ++ .ref b :: st)) rfl (hl.1.trans F.2.2.1.symm) (argsL := As) (rest := st) hlen rfl hmon (by rw [F.2.1]; exact hd) hpre
end GR3
