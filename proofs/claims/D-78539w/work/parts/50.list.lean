/-! ArrayList -/
set_option maxRecDepth 100000
/-- a list's object: modCount, its array, its size -/
abbrev g_LO (m : Int) (ea : Nat) (n : Nat) : g_E := .inr (16, [.int (iI m), .ref ea, .int (iI n)])
theorem g_up_up {G : g_H} {a : Nat} {x y : g_T × g_E} : g_up (g_up G a x) a y = g_up G a y := by
  funext q
  unfold g_up
  split <;> rfl
def g_fr (o k : Nat) (G G' : g_H) : Prop := ∀ (b : Nat) (tb : g_T) (e : g_E), G b = some (tb, e) → ¬ (tb.1 = o ∧ tb.2.1 = k) → G' b = some (tb, e)
theorem g_fr.rf {o k : Nat} {G : g_H} : g_fr o k G G := fun _ _ _ h _ => h
theorem g_fr.up {o k : Nat} {G G1 : g_H} {a : Nat} {x : g_T × g_E} (h : g_fr o k G G1) (ha : ∀ (tb : g_T) (e : g_E), G a = some (tb, e) → tb.1 = o ∧ tb.2.1 = k) : g_fr o k G (g_up G1 a x) := by
  intro b tb e hb hn
  rw [g_up_n]
  · exact h b tb e hb hn
  · rintro rfl
    exact hn (ha tb e hb)
theorem g_fr.up' {o k : Nat} {G G1 G2 : g_H} {a : Nat} {x : g_T × g_E} (h : g_fr o k G G1) (e : G2 = g_up G1 a x) (ha : ∀ (tb : g_T) (e : g_E), G a = some (tb, e) → tb.1 = o ∧ tb.2.1 = k) : g_fr o k G G2 := by rw [e]; exact h.up ha
theorem g_own_s {o k : Nat} {G : g_H} {a : Nat} {t : g_T} {e : g_E} (h : G a = some (t, e)) (h1 : t.1 = o) (h2 : t.2.1 = k) : ∀ (tb : g_T) (e : g_E), G a = some (tb, e) → tb.1 = o ∧ tb.2.1 = k := by
  intro tb e' h'
  rw [h] at h'
  cases h'
  exact ⟨h1, h2⟩
theorem g_own_n {o k : Nat} {G : g_H} {a : Nat} (h : G a = none) : ∀ (tb : g_T) (e : g_E), G a = some (tb, e) → tb.1 = o ∧ tb.2.1 = k := by
  intro tb e' h'
  rw [h] at h'
  cases h'
/-- an object that no cell of (o, k) is -/
def g_obx (o k : Nat) (G : g_H) (x : Nat) : Prop := ∃ (tx : g_T) (ci : Nat) (fs : List Value), G x = some (tx, .inr (ci, fs)) ∧ ¬ (tx.1 = o ∧ tx.2.1 = k)
theorem g_obx.ob {o k : Nat} {G : g_H} {x : Nat} (h : g_obx o k G x) : g_ob G x := by
  obtain ⟨tx, ci, fs, h1, -⟩ := h
  exact ⟨tx, ci, fs, h1⟩
theorem g_obx.fr {o k : Nat} {G G' : g_H} {x : Nat} (h : g_obx o k G x) (hf : g_fr o k G G') : g_obx o k G' x := by
  obtain ⟨tx, ci, fs, h1, h2⟩ := h
  exact ⟨tx, ci, fs, hf x tx _ h1 h2, h2⟩
/-- a list at a, labelled (o, k): its elements' addresses, its capacity -/
def g_al (w : g_W) (G : g_H) (o k a : Nat) (xs : List Nat) (cap : Nat) : Prop :=
  ∃ (m : Int) (ea : Nat) (te : g_T) (tp : Nat) (f : Nat → Value), G a = some ((o, k, 0), g_LO m ea xs.length) ∧ G ea = some (te, .inl (tp, cap, f)) ∧ ((tp = 4 ∧ te = (o, k, 1)) ∨ (tp = 13 ∧ ea = g_c w 2 ∧ cap = 0 ∧ te.1 = 0)) ∧ (ea = g_c w 2 ↔ cap = 0) ∧
    xs.length ≤ cap ∧ (∀ (j x : Nat), xs[j]? = some x → f j = .ref x) ∧ (∀ j, xs.length ≤ j → j < cap → f j = .null) ∧ (∀ x ∈ xs, g_obx o k G x)
/-- the next capacity -/
def g_gr (cap : Nat) : Nat := if cap = 0 then 10 else cap + max 1 (cap / 2)
def g_cap (n cap : Nat) : Nat := if n = cap then g_gr cap else cap
def g_gms (n cap : Nat) : Nat := if n = cap then g_gr cap else 0
theorem g_shr1 (c : Nat) (h : c < 2147483648) : iI (c : Int) >>> (iI 1 &&& 31) = iI ((c / 2 : Nat) : Int) := by
  rw [iI_nI, iI_nI]
  exact pk_shrN h (iI 1 &&& 31) 1 (by decide)
theorem g_al_ne {G : g_H} {o k a ea cap n tp : Nat} {m : Int} {te : g_T} {f : Nat → Value} (h1 : G a = some ((o, k, 0), g_LO m ea n)) (h2 : G ea = some (te, .inl (tp, cap, f))) : ea ≠ a := g_ne h1 h2 (by simp)
section P50
variable {w : g_W} {l : Launch} {G : g_H}
set_option maxHeartbeats 1000000 in
theorem t_copyOf2 {a n cap tp : Nat} {t : g_T} {f : Nat → Value} (t2 : g_T) (d : Nat) (hG : G a = some (t, .inl (tp, n, f))) (htp : tp = 4) (hcap : n ≤ cap) (hc2 : cap ≤ 100000) (hv : ∀ i, i < n → g_ck G 4 (f i)) (ht2 : Nat.blt 0 t2.1 = true) : g_Met w l mJ12_copyOf_2 (d + 1) 1 cap [.ref a, .int (iI cap), .ref (g_c w g_mir)] G (g_rt (fun r G' => ∃ q, G q = none ∧ r = some (.ref q) ∧ G' = g_up G q (t2, .inl (4, cap, fun j => if j < n then f j else .null)))) := by
  subst htp
  refine g_entry okJ12_copyOf_2 rfl ?_
  refine gr_aload_n (pc := 0) dJ12_copyOf_2_0 rfl (by rfl) ?_
  refine gr_ldcM (pc := 1) dJ12_copyOf_2_1 q390 ?_
  refine gr_acmpne (tgt := 13) (pc := 3) dJ12_copyOf_2_3 (by decide) (fun c_3 => absurd rfl c_3) (fun c_3 => ?_)
  refine gr_iload_n (pc := 6) dJ12_copyOf_2_6 rfl (by rfl) ?_
  refine gr_anew t2 (cap) 4 (pc := 7) dJ12_copyOf_2_7 rfl q391 q149 rfl (by omega) (by omega) (by omega) (fun q_7 G_7 hf_7 hG_7 => ?_)
  have hq := g_eq_s hG_7
  have ha7 := g_eq_n hG_7 hG (g_nf hf_7 hG)
  refine gr_goto (tgt := 24) (pc := 10) dJ12_copyOf_2_10 (by decide) ?_
  refine gr_astore_n (pc := 24) dJ12_copyOf_2_24 rfl rfl (by rfl) ?_
  refine gr_aload_n (pc := 25) dJ12_copyOf_2_25 rfl (by rfl) ?_
  refine gi_iconst (pc := 26) dJ12_copyOf_2_26 ?_
  refine gr_aload_n (pc := 27) dJ12_copyOf_2_27 rfl (by rfl) ?_
  refine gi_iconst (pc := 28) dJ12_copyOf_2_28 ?_
  refine gr_aload_n (pc := 29) dJ12_copyOf_2_29 rfl (by rfl) ?_
  refine gr_alen (pc := 30) dJ12_copyOf_2_30 (by assumption) (by first | rfl | assumption) ?_
  refine gr_iload_n (pc := 31) dJ12_copyOf_2_31 rfl (by rfl) ?_
  refine gi_mmin (pc := 32) dJ12_copyOf_2_32 q392 ⟨by omega, by omega⟩ ⟨by omega, by omega⟩ (by omega) (by rfl) ?_
  refine gr_copy (tp := 4) (pc := 35) dJ12_copyOf_2_35 q395 rfl 4 rfl (by assumption) (by assumption) (by first | rfl | assumption) ⟨⟨by omega, by omega⟩, by omega⟩ ⟨⟨by omega, by omega⟩, by omega⟩ ⟨⟨by omega, by omega⟩, by omega⟩ (by omega) (by omega) (fun i hi => by
          have h3 : i < n := by omega
          have h4 := hv i h3
          rw [show (0 : Int).toNat + i = i by simp]
          cases hfi : f i with
          | ref x =>
            rw [hfi] at h4
            obtain ⟨h5, tv, ci, fs, h6⟩ := h4
            exact ⟨h5, tv, ci, fs, g_eq_n hG_7 h6 (g_nf hf_7 h6)⟩
          | _ => rw [hfi] at h4; exact h4) (by omega) (by rfl) (fun G_35 hG_35 => ?_)
  refine gr_aload_n (pc := 38) dJ12_copyOf_2_38 rfl (by rfl) ?_
  refine gr_aret (pc := 39) dJ12_copyOf_2_39 rfl (Or.inr ⟨_, rfl⟩) (Or.inr ⟨_, rfl⟩) ?_
  refine ⟨q_7, hf_7, rfl, ?_⟩
  rw [hG_35, hG_7]
  have e1 : (min (n : Int) (cap : Int)).toNat = n := by omega
  have e2 : g_cp f (fun _ => Value.null) (Int.toNat 0) (Int.toNat 0) (min (n : Int) (cap : Int)).toNat = fun j => if j < n then f j else .null := by
    funext j
    unfold g_cp
    simp [e1]
  rw [e2]
  exact g_up_up

set_option maxHeartbeats 1000000 in
theorem t_copyOf {a n cap tp : Nat} {t : g_T} {f : Nat → Value} (t2 : g_T) (d : Nat) (hG : G a = some (t, .inl (tp, n, f))) (htp : tp = 4) (hcap : n ≤ cap) (hc2 : cap ≤ 100000) (hv : ∀ i, i < n → g_ck G 4 (f i)) (ht2 : Nat.blt 0 t2.1 = true) : g_Met w l mJ12_copyOf (d + 2) 1 cap [.ref a, .int (iI cap)] G (g_rt (fun r G' => ∃ q, G q = none ∧ r = some (.ref q) ∧ G' = g_up G q (t2, .inl (4, cap, fun j => if j < n then f j else .null)))) := by
  subst htp
  refine g_entry okJ12_copyOf rfl ?_
  refine gr_aload_n (pc := 0) dJ12_copyOf_0 rfl (by rfl) ?_
  refine gr_iload_n (pc := 1) dJ12_copyOf_1 rfl (by rfl) ?_
  refine gr_aload_n (pc := 2) dJ12_copyOf_2 rfl (by rfl) ?_
  refine gr_getC (pc := 3) dJ12_copyOf_3 q358 (by assumption) (by rfl) (by omega) ?_
  refine gr_callS (pc := 6) dJ12_copyOf_6 (t_copyOf2 t2 d hG rfl hcap hc2 hv ht2) okJ12_copyOf_2 q387 q388 q104 wdJ12_copyOf_2 (by rfl) (by rfl) (by omega) (by omega) (by omega) ?_ (fun _ _ _ h => h.elim)
  rintro _ _ ⟨q, hq, rfl, rfl⟩
  refine gr_aret (pc := 9) dJ12_copyOf_9 rfl (Or.inr ⟨_, rfl⟩) (Or.inr ⟨_, rfl⟩) ?_
  exact ⟨q, hq, rfl, rfl⟩

set_option maxHeartbeats 1000000 in
theorem t_newLength {a b c : Nat} (d : Nat) (ha : a ≤ 100000) (hb : b ≤ 100000) (hc : c ≤ 100000) (hp : 0 < max b c) : g_Met w l mJ10_newLength (d + 1) 0 0 [.int (iI a), .int (iI b), .int (iI c)] G (g_rv (.int (iI ((a + max b c : Nat) : Int))) G) := by
  refine g_entry okJ10_newLength rfl ?_
  refine gr_iload_n (pc := 0) dJ10_newLength_0 rfl (by rfl) ?_
  refine gr_iload_n (pc := 1) dJ10_newLength_1 rfl (by rfl) ?_
  refine gr_iload_n (pc := 2) dJ10_newLength_2 rfl (by rfl) ?_
  refine gi_mmax (pc := 3) dJ10_newLength_3 q348 ⟨by omega, by omega⟩ ⟨by omega, by omega⟩ (by omega) (by rfl) ?_
  refine gi_iadd (pc := 6) dJ10_newLength_6 ?_
  refine gr_istore_n (pc := 7) dJ10_newLength_7 rfl rfl (by rfl) ?_
  refine gi_iconst (pc := 8) dJ10_newLength_8 ?_
  refine gr_iload_n (pc := 9) dJ10_newLength_9 rfl (by rfl) ?_
  refine gi_icmpge (tgt := 21) (pc := 10) dJ10_newLength_10 (by decide) ⟨by omega, by omega⟩ ⟨by omega, by omega⟩ (fun c_10 => absurd c_10 (by omega)) (fun c_10 => ?_)
  refine gr_iload_n (pc := 13) dJ10_newLength_13 rfl (by rfl) ?_
  refine gi_ldc (2147483639) (pc := 14) dJ10_newLength_14 q351 rfl ?_
  refine gi_icmpgt (tgt := 21) (pc := 16) dJ10_newLength_16 (by decide) ⟨by omega, by omega⟩ ⟨by omega, by omega⟩ (fun c_16 => absurd c_16 (by omega)) (fun c_16 => ?_)
  refine gr_iload_n (pc := 19) dJ10_newLength_19 rfl (by rfl) ?_
  refine gi_iret (pc := 20) dJ10_newLength_20 rfl ?_
  exact ⟨by congr 3; omega, rfl⟩

set_option maxHeartbeats 1000000 in
theorem t_pcheck {i n : Int} (d : Nat) (hi : g_i32 i) (hn : g_i32 n) (h0 : 0 ≤ i) (h1 : i < n) : g_Met w l mJ19_checkIndex d 0 0 [.int (iI i), .int (iI n), .null] G (g_rv (.int (iI i)) G) := by
  refine g_entry okJ19_checkIndex rfl ?_
  refine gr_iload_n (pc := 0) dJ19_checkIndex_0 rfl (by rfl) ?_
  refine gi_iflt (tgt := 9) (pc := 1) dJ19_checkIndex_1 (by decide) (by assumption) (fun c_1 => absurd c_1 (by omega)) (fun c_1 => ?_)
  refine gr_iload_n (pc := 4) dJ19_checkIndex_4 rfl (by rfl) ?_
  refine gr_iload_n (pc := 5) dJ19_checkIndex_5 rfl (by rfl) ?_
  refine gi_icmplt (tgt := 16) (pc := 6) dJ19_checkIndex_6 (by decide) (by assumption) (by assumption) (fun c_6 => ?_) (fun c_6 => absurd h1 c_6)
  refine gr_iload_n (pc := 16) dJ19_checkIndex_16 rfl (by rfl) ?_
  refine gi_iret (pc := 17) dJ19_checkIndex_17 rfl ?_
  exact ⟨rfl, rfl⟩

set_option maxHeartbeats 1000000 in
theorem t_ocheck {i n : Int} (d : Nat) (hi : g_i32 i) (hn : g_i32 n) (h0 : 0 ≤ i) (h1 : i < n) : g_Met w l mJ18_checkIndex (d + 1) 0 0 [.int (iI i), .int (iI n)] G (g_rv (.int (iI i)) G) := by
  refine g_entry okJ18_checkIndex rfl ?_
  refine gr_iload_n (pc := 0) dJ18_checkIndex_0 rfl (by rfl) ?_
  refine gr_iload_n (pc := 1) dJ18_checkIndex_1 rfl (by rfl) ?_
  refine gr_aconst_null (pc := 2) dJ18_checkIndex_2 ?_
  refine gr_callS (pc := 3) dJ18_checkIndex_3 (t_pcheck d hi hn h0 h1) okJ19_checkIndex q493 q494 q113 wdJ19_checkIndex (by rfl) (by rfl) (by omega) (by omega) (by omega) ?_ (fun _ _ _ h => h.elim)
  rintro _ _ ⟨rfl, rfl⟩
  refine gi_iret (pc := 6) dJ18_checkIndex_6 rfl ?_
  exact ⟨rfl, rfl⟩

set_option maxHeartbeats 1000000 in
theorem t_acInit {a : Nat} (d : Nat) : g_Met w l mJ0_init (d + 1) 0 0 [.ref a] G (g_rt (fun r G' => r = none ∧ G = G')) := by
  refine g_entry okJ0_init rfl ?_
  refine gr_aload_n (pc := 0) dJ0_init_0 rfl (by rfl) ?_
  refine gr_objInit (pc := 1) dJ0_init_1 q147 q135 q136 (by rfl) (by omega) ?_
  refine gr_ret (pc := 4) dJ0_init_4 rfl ?_
  exact ⟨rfl, rfl⟩

set_option maxHeartbeats 1000000 in
theorem t_abInit {a : Nat} {t : g_T} {x y z : Value} (d : Nat) (hG : G a = some (t, .inr (16, [x, y, z]))) (ht : Nat.blt 0 t.1 = true) : g_Met w l mJ6_init (d + 2) 0 0 [.ref a] G (g_rt (fun r G' => r = none ∧ G' = g_up G a (t, .inr (16, [.int (iI 0), y, z])))) := by
  refine g_entry okJ6_init rfl ?_
  refine gr_aload_n (pc := 0) dJ6_init_0 rfl (by rfl) ?_
  refine gr_callI (pc := 1) dJ6_init_1 (t_acInit d) okJ0_init q210 q145 q87 wdJ0_init rfl rfl (by rfl) (by rfl) (by omega) (by omega) (by omega) ?_ (fun _ _ _ h => h.elim)
  rintro _ _ ⟨rfl, rfl⟩
  refine gr_aload_n (pc := 4) dJ6_init_4 rfl (by rfl) ?_
  refine gi_iconst (pc := 5) dJ6_init_5 ?_
  refine gr_putf (pc := 6) dJ6_init_6 rfl 16 in_J7 tyJ7 tyJ7_ok nmJ7 rfl 0 rfl q215 (Or.inl rfl) rfl rfl rfl rfl (by assumption) (by first | rfl | assumption) (fun G_6 hG_6 => ?_)
  refine gr_ret (pc := 9) dJ6_init_9 rfl ?_
  exact ⟨rfl, hG_6⟩

set_option maxHeartbeats 1000000 in
theorem t_alInit {a o k : Nat} (d : Nat) (hG : G a = some ((o + 1, k, 0), .inr (16, [.int (iI 0), .null, .int (iI 0)]))) {tE : g_T} {fE : Nat → Value} (hE : G (g_c w 2) = some (tE, .inl (13, 0, fE))) (hE0 : tE.1 = 0) : g_Met w l mJ7_init (d + 3) 0 0 [.ref a] G (g_rt (fun r G' => r = none ∧ g_al w G' (o + 1) k a [] 0 ∧ G' = g_up G a ((o + 1, k, 0), g_LO 0 (g_c w 2) 0))) := by
  refine g_entry okJ7_init rfl ?_
  refine gr_aload_n (pc := 0) dJ7_init_0 rfl (by rfl) ?_
  refine gr_callI (pc := 1) dJ7_init_1 (t_abInit d hG (by rfl)) okJ6_init q207 q208 q94 wdJ6_init rfl rfl (by rfl) (by rfl) (by omega) (by omega) (by omega) ?_ (fun _ _ _ h => h.elim)
  rintro _ G1 ⟨rfl, h1⟩
  have hG1 := g_eq_s h1
  refine gr_aload_n (pc := 4) dJ7_init_4 rfl (by rfl) ?_
  refine gr_gets (pc := 5) dJ7_init_5 2 rfl q211 rfl ?_
  refine gr_putf (pc := 8) dJ7_init_8 rfl 16 in_J7 tyJ7 tyJ7_ok nmJ7 rfl 1 rfl q213 (Or.inl rfl) rfl rfl rfl rfl (by assumption) (by first | rfl | assumption) (fun G_8 hG_8 => ?_)
  refine gr_ret (pc := 11) dJ7_init_11 rfl ?_
  have e1 : G_8 = g_up G a ((o + 1, k, 0), g_LO 0 (g_c w 2) 0) := by
    rw [hG_8, h1]
    exact g_up_up
  have hne : g_c w 2 ≠ a := g_ne hG hE (by simp)
  exact ⟨rfl, ⟨0, g_c w 2, tE, 13, fE, by rw [e1]; exact g_up_s, by rw [e1, g_up_n hne]; exact hE, Or.inr ⟨rfl, rfl, rfl, hE0⟩, ⟨fun _ => rfl, fun _ => rfl⟩, Nat.le_refl _, (fun j x hx => by cases hx), fun j _ h => absurd h (Nat.not_lt_zero j), (fun x hx => by cases hx)⟩, e1⟩

set_option maxHeartbeats 1000000 in
theorem t_alSize {o k a cap : Nat} {xs : List Nat} (d : Nat) (hA : g_al w G o k a xs cap) : g_Met w l mJ7_size d 0 0 [.ref a] G (g_rv (.int (iI xs.length)) G) := by
  obtain ⟨m, ea, te, tp, f, hL, hE, htp, hE0, hcap, hf1, hf2, hob⟩ := hA
  refine g_entry okJ7_size rfl ?_
  refine gr_aload_n (pc := 0) dJ7_size_0 rfl (by rfl) ?_
  refine gr_getf (pc := 1) dJ7_size_1 rfl 16 in_J7 rfl 2 rfl q214 (Or.inl rfl) (by assumption) (by rfl) ?_
  refine gi_iret (pc := 4) dJ7_size_4 rfl ?_
  exact ⟨rfl, rfl⟩

set_option maxHeartbeats 1000000 in
theorem t_elementData {o k a cap x : Nat} {xs : List Nat} {z : Int} (d : Nat) (hA : g_al w G o k a xs cap) (hc : cap ≤ 100000) (hz : 0 ≤ z) (hx : xs[z.toNat]? = some x) : g_Met w l mJ7_elementData d 0 0 [.ref a, .int (iI z)] G (g_rv (.ref x) G) := by
  obtain ⟨m, ea, te, tp, f, hL, hE, htp, hE0, hcap, hf1, hf2, hob⟩ := hA
  have hzl : z.toNat < xs.length := (List.getElem?_eq_some_iff.mp hx).1
  have htp4 : tp = 4 := by
    rcases htp with ⟨h, -⟩ | ⟨-, -, h, -⟩
    · exact h
    · omega
  subst htp4
  refine g_entry okJ7_elementData rfl ?_
  refine gr_aload_n (pc := 0) dJ7_elementData_0 rfl (by rfl) ?_
  refine gr_getf (pc := 1) dJ7_elementData_1 rfl 16 in_J7 rfl 1 rfl q213 (Or.inl rfl) (by assumption) (by rfl) ?_
  refine gr_iload_n (pc := 4) dJ7_elementData_4 rfl (by rfl) ?_
  refine gr_aald (pc := 5) dJ7_elementData_5 (by assumption) (by first | rfl | assumption) rfl (by omega) (by omega) (by omega) (hf1 _ _ hx) ?_
  refine gr_aret (pc := 6) dJ7_elementData_6 rfl (Or.inl ⟨_, rfl⟩) (Or.inr ⟨_, rfl⟩) ?_
  exact ⟨rfl, rfl⟩

set_option maxHeartbeats 1000000 in
theorem t_alGet {o k a cap x : Nat} {xs : List Nat} {z : Int} (d : Nat) (hA : g_al w G o k a xs cap) (hc : cap ≤ 100000) (hz : 0 ≤ z) (hx : xs[z.toNat]? = some x) : g_Met w l mJ7_get (d + 2) 0 0 [.ref a, .int (iI z)] G (g_rv (.ref x) G) := by
  have hA0 := hA
  obtain ⟨m, ea, te, tp, f, hL, hE, htp, hE0, hcap, hf1, hf2, hob⟩ := hA
  have hzl : z.toNat < xs.length := (List.getElem?_eq_some_iff.mp hx).1
  refine g_entry okJ7_get rfl ?_
  refine gr_iload_n (pc := 0) dJ7_get_0 rfl (by rfl) ?_
  refine gr_aload_n (pc := 1) dJ7_get_1 rfl (by rfl) ?_
  refine gr_getf (pc := 2) dJ7_get_2 rfl 16 in_J7 rfl 2 rfl q214 (Or.inl rfl) (by assumption) (by rfl) ?_
  refine gr_callS (pc := 5) dJ7_get_5 (t_ocheck (i := z) (n := xs.length) d ⟨by omega, by omega⟩ ⟨by omega, by omega⟩ hz (by omega)) okJ18_checkIndex q490 q491 q112 wdJ18_checkIndex (by rfl) (by rfl) (by omega) (by omega) (by omega) ?_ (fun _ _ _ h => h.elim)
  rintro _ _ ⟨rfl, rfl⟩
  refine gr_pop (pc := 8) dJ7_get_8 rfl ?_
  refine gr_aload_n (pc := 9) dJ7_get_9 rfl (by rfl) ?_
  refine gr_iload_n (pc := 10) dJ7_get_10 rfl (by rfl) ?_
  refine gr_callV (pc := 11) dJ7_get_11 (t_elementData d hA0 hc hz hx) okJ7_elementData q496 q497 q498 q95 wdJ7_elementData (by assumption) rfl rfl (by rfl) (by rfl) (by omega) (by omega) (by omega) ?_ (fun _ _ _ h => h.elim)
  rintro _ _ ⟨rfl, rfl⟩
  refine gr_aret (pc := 14) dJ7_get_14 rfl (Or.inl ⟨_, rfl⟩) (Or.inr ⟨_, rfl⟩) ?_
  exact ⟨rfl, rfl⟩

set_option maxHeartbeats 1000000 in
theorem t_grow2 {a ea n tp : Nat} {m : Int} {o k : Nat} {te : g_T} {f : Nat → Value} (d : Nat) (hL : G a = some ((o + 1, k, 0), g_LO m ea n)) (hE : G ea = some (te, .inl (tp, n, f))) (htp : (tp = 4 ∧ te = (o + 1, k, 1)) ∨ (tp = 13 ∧ ea = g_c w 2 ∧ n = 0 ∧ te.1 = 0)) (hn : n ≤ 10000) (hE0 : ea = g_c w 2 ↔ n = 0) (hck : ∀ i, i < n → g_ck G 4 (f i)) : g_Met w l mJ7_grow_2 (d + 3) 1 (g_gr n) [.ref a, .int (iI ((n : Int) + 1))] G (g_rt (fun r G' => ∃ q, G q = none ∧ r = some (.ref q) ∧ G' = g_up (g_up G q ((o + 1, k, 1), .inl (4, g_gr n, fun j => if j < n then f j else .null))) a ((o + 1, k, 0), g_LO m q n))) := by
  have hfa : g_fa[tp]? = some (.object "java/lang/Object") := by rcases htp with ⟨rfl, -⟩ | ⟨rfl, -⟩ <;> rfl
  have hgr : g_gr n ≤ 100000 ∧ n ≤ g_gr n := by
    unfold g_gr
    split <;> omega
  refine g_entry okJ7_grow_2 rfl ?_
  refine gr_aload_n (pc := 0) dJ7_grow_2_0 rfl (by rfl) ?_
  refine gr_getf (pc := 1) dJ7_grow_2_1 rfl 16 in_J7 rfl 1 rfl q213 (Or.inl rfl) (by assumption) (by rfl) ?_
  refine gr_alen (pc := 4) dJ7_grow_2_4 hE (by first | rfl | assumption) ?_
  refine gr_istore_n (pc := 5) dJ7_grow_2_5 rfl rfl (by rfl) ?_
  refine gr_iload_n (pc := 6) dJ7_grow_2_6 rfl (by rfl) ?_
  refine gi_ifgt (tgt := 20) (pc := 7) dJ7_grow_2_7 (by decide) ⟨by omega, by omega⟩ (fun c_7 => ?_) (fun c_7 => ?_)
  · refine gr_iload_n (pc := 20) dJ7_grow_2_20 rfl (by rfl) ?_
    refine gr_iload_n (pc := 21) dJ7_grow_2_21 rfl (by rfl) ?_
    refine gr_iload_n (pc := 22) dJ7_grow_2_22 rfl (by rfl) ?_
    refine gi_isub (pc := 23) dJ7_grow_2_23 ?_
    refine gr_iload_n (pc := 24) dJ7_grow_2_24 rfl (by rfl) ?_
    refine gi_iconst (pc := 25) dJ7_grow_2_25 ?_
    refine gr_ishr (pc := 26) dJ7_grow_2_26 ?_
    rw [g_shr1 n (by omega)]
    have hsz : (((n : Int) + 1) - (n : Int)) = ((1 : Nat) : Int) := by omega
    rw [hsz]
    refine gr_callS (pc := 27) dJ7_grow_2_27 (t_newLength (a := n) (b := 1) (c := n / 2) d (by omega) (by omega) (by omega) (by omega)) okJ10_newLength q345 q346 q102 wdJ10_newLength (by rfl) (by rfl) (by omega) (by omega) (by omega) ?_ (fun _ _ _ h => h.elim)
    rintro _ _ ⟨rfl, rfl⟩
    have hl2 : n + max 1 (n / 2) = g_gr n := by
      unfold g_gr
      rw [if_neg (by omega)]
    rw [hl2]
    refine gr_istore_n (pc := 30) dJ7_grow_2_30 rfl rfl (by rfl) ?_
    refine gr_aload_n (pc := 31) dJ7_grow_2_31 rfl (by rfl) ?_
    refine gr_aload_n (pc := 32) dJ7_grow_2_32 rfl (by rfl) ?_
    refine gr_getf (pc := 33) dJ7_grow_2_33 rfl 16 in_J7 rfl 1 rfl q213 (Or.inl rfl) (by assumption) (by rfl) ?_
    refine gr_iload_n (pc := 36) dJ7_grow_2_36 rfl (by rfl) ?_
    refine gr_callS (pc := 37) dJ7_grow_2_37 (t_copyOf (o + 1, k, 1) d hE (by rcases htp with ⟨h, -⟩ | ⟨-, -, h, -⟩ <;> omega) hgr.2 hgr.1 hck (by rfl)) okJ12_copyOf q355 q356 q104 wdJ12_copyOf (by rfl) (by rfl) (by omega) (by omega) (by omega) ?_ (fun _ _ _ h => h.elim)
    rintro _ G1 ⟨q, hq, rfl, hG1⟩
    have hL1 := g_eq_n hG1 hL (g_nf hq hL)
    refine gr_dup_x1 (pc := 40) dJ7_grow_2_40 rfl rfl ?_
    refine gr_putf (pc := 41) dJ7_grow_2_41 rfl 16 in_J7 tyJ7 tyJ7_ok nmJ7 rfl 1 rfl q213 (Or.inl rfl) rfl rfl rfl rfl (by assumption) (by first | rfl | assumption) (fun G_41 hG_41 => ?_)
    refine gr_aret (pc := 44) dJ7_grow_2_44 rfl (Or.inr ⟨_, rfl⟩) (Or.inr ⟨_, rfl⟩) ?_
    exact ⟨q, hq, rfl, by rw [hG_41, hG1]; rfl⟩
  · refine gr_aload_n (pc := 10) dJ7_grow_2_10 rfl (by rfl) ?_
    refine gr_getf (pc := 11) dJ7_grow_2_11 rfl 16 in_J7 rfl 1 rfl q213 (Or.inl rfl) (by assumption) (by rfl) ?_
    refine gr_gets (pc := 14) dJ7_grow_2_14 2 rfl q211 rfl ?_
    refine gr_acmpeq (tgt := 45) (pc := 17) dJ7_grow_2_17 (by decide) (fun c_17 => ?_) (fun c_17 => absurd (hE0.mpr (by omega)) c_17)
    refine gr_aload_n (pc := 45) dJ7_grow_2_45 rfl (by rfl) ?_
    refine gi_bipush (pc := 46) dJ7_grow_2_46 (by decide) ?_
    refine gr_iload_n (pc := 48) dJ7_grow_2_48 rfl (by rfl) ?_
    refine gi_mmax (pc := 49) dJ7_grow_2_49 q398 ⟨by omega, by omega⟩ ⟨by omega, by omega⟩ (by omega) (by rfl) ?_
    refine gr_anew (o + 1, k, 1) (g_gr n) 4 (pc := 52) dJ7_grow_2_52 rfl q399 q149 (by unfold g_gr; rw [if_pos (by omega)]; omega) (by omega) (by omega) (by omega) (fun q_52 G_52 hf_52 hG_52 => ?_)
    have hL1 := g_eq_n hG_52 hL (g_nf hf_52 hL)
    refine gr_dup_x1 (pc := 55) dJ7_grow_2_55 rfl rfl ?_
    refine gr_putf (pc := 56) dJ7_grow_2_56 rfl 16 in_J7 tyJ7 tyJ7_ok nmJ7 rfl 1 rfl q213 (Or.inl rfl) rfl rfl rfl rfl (by assumption) (by first | rfl | assumption) (fun G_56 hG_56 => ?_)
    refine gr_aret (pc := 59) dJ7_grow_2_59 rfl (Or.inr ⟨_, rfl⟩) (Or.inr ⟨_, rfl⟩) ?_
    have e0 : n = 0 := hE0.mp (by assumption)
    subst e0
    refine ⟨q_52, hf_52, rfl, ?_⟩
    rw [hG_56, hG_52]
    simp
    rfl

set_option maxHeartbeats 1000000 in
theorem t_grow {a ea n tp : Nat} {m : Int} {o k : Nat} {te : g_T} {f : Nat → Value} (d : Nat) (hL : G a = some ((o + 1, k, 0), g_LO m ea n)) (hE : G ea = some (te, .inl (tp, n, f))) (htp : (tp = 4 ∧ te = (o + 1, k, 1)) ∨ (tp = 13 ∧ ea = g_c w 2 ∧ n = 0 ∧ te.1 = 0)) (hn : n ≤ 10000) (hE0 : ea = g_c w 2 ↔ n = 0) (hck : ∀ i, i < n → g_ck G 4 (f i)) : g_Met w l mJ7_grow (d + 4) 1 (g_gr n) [.ref a] G (g_rt (fun r G' => ∃ q, G q = none ∧ r = some (.ref q) ∧ G' = g_up (g_up G q ((o + 1, k, 1), .inl (4, g_gr n, fun j => if j < n then f j else .null))) a ((o + 1, k, 0), g_LO m q n))) := by
  refine g_entry okJ7_grow rfl ?_
  refine gr_aload_n (pc := 0) dJ7_grow_0 rfl (by rfl) ?_
  refine gr_aload_n (pc := 1) dJ7_grow_1 rfl (by rfl) ?_
  refine gr_getf (pc := 2) dJ7_grow_2 rfl 16 in_J7 rfl 2 rfl q214 (Or.inl rfl) (by assumption) (by rfl) ?_
  refine gi_iconst (pc := 5) dJ7_grow_5 ?_
  refine gi_iadd (pc := 6) dJ7_grow_6 ?_
  refine gr_callV (pc := 7) dJ7_grow_7 (t_grow2 d hL hE htp hn hE0 hck) okJ7_grow_2 q341 q343 qs2 q95 wdJ7_grow_2 (by assumption) rfl rfl (by rfl) (by rfl) (by omega) (by omega) (by omega) ?_ (fun _ _ _ h => h.elim)
  rintro _ _ ⟨q, hq, rfl, rfl⟩
  refine gr_aret (pc := 10) dJ7_grow_10 rfl (Or.inr ⟨_, rfl⟩) (Or.inr ⟨_, rfl⟩) ?_
  exact ⟨q, hq, rfl, rfl⟩

theorem g_app {xs : List Nat} {v : Nat} {f f' : Nat → Value} (hf1 : ∀ (j x : Nat), xs[j]? = some x → f j = .ref x) (hl : ∀ j, j < xs.length → f' j = f j) (hv : f' xs.length = .ref v) : ∀ (j x : Nat), (xs ++ [v])[j]? = some x → f' j = .ref x := by
  intro j x h
  by_cases hj : j < xs.length
  · rw [List.getElem?_append_left hj] at h
    rw [hl j hj]
    exact hf1 j x h
  · rw [List.getElem?_append_right (by omega)] at h
    have hz : j - xs.length < 1 := (List.getElem?_eq_some_iff.mp h).1
    have hj2 : j = xs.length := by omega
    subst hj2
    rw [Nat.sub_self] at h
    cases h
    exact hv
theorem g_al_ck {G : g_H} {o k cap : Nat} {xs : List Nat} {f : Nat → Value} (hf1 : ∀ (j x : Nat), xs[j]? = some x → f j = .ref x) (hf2 : ∀ j, xs.length ≤ j → j < cap → f j = .null) (hob : ∀ x ∈ xs, g_obx o k G x) : ∀ i, i < cap → g_ck G 4 (f i) := by
  intro i hi
  by_cases hj : i < xs.length
  · rw [hf1 i xs[i] (List.getElem?_eq_getElem hj)]
    exact ⟨rfl, (hob _ (List.getElem_mem hj)).ob⟩
  · rw [hf2 i (by omega) hi]
    exact rfl
theorem g_obx_app {G G' : g_H} {o k : Nat} {xs : List Nat} {v : Nat} (hob : ∀ x ∈ xs, g_obx o k G x) (hv : g_obx o k G v) (hf : g_fr o k G G') : ∀ x ∈ xs ++ [v], g_obx o k G' x := by
  intro x hx
  rcases List.mem_append.mp hx with h | h
  · exact (hob x h).fr hf
  · rw [List.mem_singleton.mp h]
    exact hv.fr hf
theorem g_E0 {w : g_W} {G : g_H} {o k a ea cap tp n : Nat} {te tE : g_T} {fE f : Nat → Value} (hEm : G (g_c w 2) = some (tE, .inl (13, 0, fE))) (hE : G ea = some (te, .inl (tp, cap, f))) (htp : (tp = 4 ∧ te = (o + 1, k, 1)) ∨ (tp = 13 ∧ ea = g_c w 2 ∧ cap = 0 ∧ te.1 = 0)) (h0 : tp = 4 → cap ≠ 0) : ea = g_c w 2 ↔ cap = 0 := by
  constructor
  · rintro rfl
    rw [hEm] at hE
    cases hE
    rfl
  · intro h
    rcases htp with ⟨h1, -⟩ | ⟨-, h1, -⟩
    · exact absurd h (h0 h1)
    · exact h1
set_option maxHeartbeats 1000000 in
theorem t_alAdd2 {a ea cap tp v o k : Nat} {m : Int} {te : g_T} {f : Nat → Value} {xs : List Nat} (d : Nat) (hL : G a = some ((o + 1, k, 0), g_LO m ea xs.length)) (hE : G ea = some (te, .inl (tp, cap, f))) (htp : (tp = 4 ∧ te = (o + 1, k, 1)) ∨ (tp = 13 ∧ ea = g_c w 2 ∧ cap = 0 ∧ te.1 = 0)) (hcap : xs.length ≤ cap) (hf1 : ∀ (j x : Nat), xs[j]? = some x → f j = .ref x) (hf2 : ∀ j, xs.length ≤ j → j < cap → f j = .null) (hob : ∀ x ∈ xs, g_obx (o + 1) k G x) (hv : g_obx (o + 1) k G v) (hc : cap ≤ 10000) (hE0 : ea = g_c w 2 ↔ cap = 0) (hEm : G (g_c w 2) ≠ none) : g_Met w l mJ7_add_2 (d + 5) (if xs.length = cap then 1 else 0) (g_gms xs.length cap) [.ref a, .ref v, .ref ea, .int (iI xs.length)] G (g_rt (fun r G' => r = none ∧ g_al w G' (o + 1) k a (xs ++ [v]) (g_cap xs.length cap) ∧ g_fr (o + 1) k G G')) := by
  have hfa : g_fa[tp]? = some (.object "java/lang/Object") := by rcases htp with ⟨rfl, -⟩ | ⟨rfl, -⟩ <;> rfl
  have hne := g_al_ne hL hE
  have hgr : g_gr cap ≤ 100000 ∧ cap < g_gr cap := by
    unfold g_gr
    split <;> omega
  refine g_entry okJ7_add_2 rfl ?_
  refine gr_iload_n (pc := 0) dJ7_add_2_0 rfl (by rfl) ?_
  refine gr_aload_n (pc := 1) dJ7_add_2_1 rfl (by rfl) ?_
  refine gr_alen (pc := 2) dJ7_add_2_2 (by assumption) (by first | rfl | assumption) ?_
  refine gi_icmpne (tgt := 11) (pc := 3) dJ7_add_2_3 (by decide) ⟨by omega, by omega⟩ ⟨by omega, by omega⟩ (fun c_3 => ?_) (fun c_3 => ?_)
  · have hlt : xs.length < cap := by omega
    have hte : te = (o + 1, k, 1) ∧ tp = 4 := by
      rcases htp with ⟨h, h2⟩ | ⟨-, -, h, -⟩
      · exact ⟨h2, h⟩
      · omega
    obtain ⟨rfl, rfl⟩ := hte
    refine gr_aload_n (pc := 11) dJ7_add_2_11 rfl (by rfl) ?_
    refine gr_iload_n (pc := 12) dJ7_add_2_12 rfl (by rfl) ?_
    refine gr_aload_n (pc := 13) dJ7_add_2_13 rfl (by rfl) ?_
    refine gr_aastO (pc := 14) dJ7_add_2_14 (by assumption) hv.ob (by first | rfl | assumption) (by first | rfl | assumption) (by omega) (by omega) (by omega) (fun G_14 hG_14 => ?_)
    have hL2 := g_eq_n hG_14 hL (Ne.symm hne)
    refine gr_aload_n (pc := 15) dJ7_add_2_15 rfl (by rfl) ?_
    refine gr_iload_n (pc := 16) dJ7_add_2_16 rfl (by rfl) ?_
    refine gi_iconst (pc := 17) dJ7_add_2_17 ?_
    refine gi_iadd (pc := 18) dJ7_add_2_18 ?_
    refine gr_putf (pc := 19) dJ7_add_2_19 rfl 16 in_J7 tyJ7 tyJ7_ok nmJ7 rfl 2 rfl q214 (Or.inl rfl) rfl rfl rfl rfl (by assumption) (by first | rfl | assumption) (fun G_19 hG_19 => ?_)
    refine gr_ret (pc := 22) dJ7_add_2_22 rfl ?_
    have hE3 : G_19 ea = _ := g_eq_n hG_19 (g_eq_s hG_14) hne
    have hfr : g_fr (o + 1) k G G_19 := (g_fr.rf.up' hG_14 (g_own_s hE rfl rfl)).up' hG_19 (g_own_s hL rfl rfl)
    refine ⟨rfl, ⟨m, ea, _, 4, _, by rw [g_eq_s hG_19]; simp, by unfold g_cap; rw [if_neg (by omega)]; exact hE3, Or.inl ⟨rfl, rfl⟩, by unfold g_cap; rw [if_neg (by omega)]; exact hE0, by unfold g_cap; rw [if_neg (by omega)]; simp; omega, g_app hf1 (fun j hj => by rw [g_fu_n]; simp; omega) (by simp [g_fu]), fun j h1 h2 => ?_, g_obx_app hob hv hfr⟩, hfr⟩
    unfold g_cap at h2
    rw [if_neg (by omega)] at h2
    rw [List.length_append, List.length_singleton] at h1
    rw [g_fu_n (by simp; omega)]
    exact hf2 j (by omega) h2
  · have hlt : xs.length = cap := by omega
    subst hlt
    refine gr_wid (mc' := 1) (ms' := g_gr xs.length) (by simp) (by simp [g_gms]) ?_
    refine gr_aload_n (pc := 6) dJ7_add_2_6 rfl (by rfl) ?_
    refine gr_callV (pc := 7) dJ7_add_2_7 (t_grow d hL hE htp hc hE0 (g_al_ck hf1 hf2 hob)) okJ7_grow q337 q339 qs1 q95 wdJ7_grow (by assumption) rfl rfl (by rfl) (by rfl) (by omega) (by omega) (by omega) ?_ (fun _ _ _ h => h.elim)
    rintro _ G1 ⟨q, hq, rfl, hG1⟩
    have hqa : q ≠ a := fun e => by rw [e, hL] at hq; cases hq
    have hqE : q ≠ g_c w 2 := fun e => hEm (e ▸ hq)
    have hE1 : G1 q = some ((o + 1, k, 1), .inl (4, g_gr xs.length, fun j => if j < xs.length then f j else .null)) := by rw [hG1, g_up_n hqa, g_up_s]
    have hfr1 : g_fr (o + 1) k G G1 := by
      rw [hG1]
      exact (g_fr.rf.up (g_own_n hq)).up (g_own_s hL rfl rfl)
    have hL1 := g_eq_s hG1
    refine gr_astore_n (pc := 10) dJ7_add_2_10 rfl rfl (by rfl) ?_
    refine gr_aload_n (pc := 11) dJ7_add_2_11 rfl (by rfl) ?_
    refine gr_iload_n (pc := 12) dJ7_add_2_12 rfl (by rfl) ?_
    refine gr_aload_n (pc := 13) dJ7_add_2_13 rfl (by rfl) ?_
    refine gr_aastO (pc := 14) dJ7_add_2_14 (by assumption) (hv.fr hfr1).ob (by first | rfl | assumption) (by first | rfl | assumption) (by omega) (by omega) (by omega) (fun G_14 hG_14 => ?_)
    have hL2 := g_eq_n hG_14 hL1 (Ne.symm hqa)
    refine gr_aload_n (pc := 15) dJ7_add_2_15 rfl (by rfl) ?_
    refine gr_iload_n (pc := 16) dJ7_add_2_16 rfl (by rfl) ?_
    refine gi_iconst (pc := 17) dJ7_add_2_17 ?_
    refine gi_iadd (pc := 18) dJ7_add_2_18 ?_
    refine gr_putf (pc := 19) dJ7_add_2_19 rfl 16 in_J7 tyJ7 tyJ7_ok nmJ7 rfl 2 rfl q214 (Or.inl rfl) rfl rfl rfl rfl (by assumption) (by first | rfl | assumption) (fun G_19 hG_19 => ?_)
    refine gr_ret (pc := 22) dJ7_add_2_22 rfl ?_
    have hE3 : G_19 q = _ := g_eq_n hG_19 (g_eq_s hG_14) hqa
    have hfr : g_fr (o + 1) k G G_19 := (hfr1.up' hG_14 (g_own_n hq)).up' hG_19 (g_own_s hL rfl rfl)
    refine ⟨rfl, ⟨m, q, _, 4, _, by rw [g_eq_s hG_19]; simp, by unfold g_cap; rw [if_pos rfl]; exact hE3, Or.inl ⟨rfl, rfl⟩, by
      unfold g_cap
      rw [if_pos rfl]
      exact ⟨fun e => absurd e hqE, fun e => by omega⟩, by unfold g_cap; rw [if_pos rfl]; simp; omega, g_app hf1 (fun j hj => by rw [g_fu_n (by simp; omega)]; simp [hj]) (by simp [g_fu]), fun j h1 h2 => ?_, g_obx_app hob hv hfr⟩, hfr⟩
    rw [List.length_append, List.length_singleton] at h1
    rw [g_fu_n (by simp; omega)]
    simp; omega

/-- cells that were there before stay -/
def g_z (G G' : g_H) : Prop := ∀ (b : Nat) (tb : g_T) (e : g_E), G b = some (tb, e) → tb.1 = 0 → G' b = some (tb, e)
theorem g_fr.z {o k : Nat} {G G' : g_H} (h : g_fr (o + 1) k G G') : g_z G G' := fun b tb e hb h0 => h b tb e hb (fun q => by omega)
theorem g_z.tr {G G1 G2 : g_H} (h : g_z G G1) (h2 : g_z G1 G2) : g_z G G2 := fun b tb e hb h0 => h2 b tb e (h b tb e hb h0) h0
/-- the constants -/
def g_cst (w : g_W) (G : g_H) : Prop :=
  (∃ t f, G (g_c w 2) = some (t, .inl (13, 0, f)) ∧ t.1 = 0) ∧
  (∃ t, G (g_c w 0) = some (t, .inr (7, [.int (iI (-1)), .int (iI 0)])) ∧ t.1 = 0) ∧
  (∃ t, G (g_c w 1) = some (t, .inr (7, [.int (iI 0), .int (iI 0)])) ∧ t.1 = 0) ∧
  (∃ t f, G (g_c w 3) = some (t, .inl (9, 256, f)) ∧ t.1 = 0 ∧ ∀ j : Nat, j < 256 → ∃ (a : Nat) (ta : g_T), f j = .ref a ∧ G a = some (ta, .inr (17, [.int (iI ((j : Int) - 128))])) ∧ ta.1 = 0) ∧
  (∃ t, G (g_c w 4) = some (t, .inl (10, 100, fun j => .int (iI ((48 + j / 10 : Nat) : Int)))) ∧ t.1 = 0) ∧
  (∃ t, G (g_c w 5) = some (t, .inl (11, 100, fun j => .int (iI ((48 + j % 10 : Nat) : Int)))) ∧ t.1 = 0)
theorem g_cst.z {w : g_W} {G G' : g_H} (h : g_cst w G) (hz : g_z G G') : g_cst w G' := by
  obtain ⟨⟨t1, f1, a1, b1⟩, ⟨t2, a2, b2⟩, ⟨t3, a3, b3⟩, ⟨t4, f4, a4, b4, c4⟩, ⟨t5, a5, b5⟩, ⟨t6, a6, b6⟩⟩ := h
  refine ⟨⟨t1, f1, hz _ _ _ a1 b1, b1⟩, ⟨t2, hz _ _ _ a2 b2, b2⟩, ⟨t3, hz _ _ _ a3 b3, b3⟩, ⟨t4, f4, hz _ _ _ a4 b4, b4, fun j hj => ?_⟩, ⟨t5, hz _ _ _ a5 b5, b5⟩, ⟨t6, hz _ _ _ a6 b6, b6⟩⟩
  obtain ⟨a, ta, e1, e2, e3⟩ := c4 j hj
  exact ⟨a, ta, e1, hz _ _ _ e2 e3, e3⟩
set_option maxHeartbeats 1000000 in
theorem t_alAdd {a cap v o k : Nat} {xs : List Nat} (d : Nat) (hA : g_al w G (o + 1) k a xs cap) (hv : g_obx (o + 1) k G v) (hc : cap ≤ 10000) (hcs : g_cst w G) : g_Met w l mJ7_add (d + 6) (if xs.length = cap then 1 else 0) (g_gms xs.length cap) [.ref a, .ref v] G (g_rt (fun r G' => r = some (.int (iI 1)) ∧ g_al w G' (o + 1) k a (xs ++ [v]) (g_cap xs.length cap) ∧ g_fr (o + 1) k G G')) := by
  obtain ⟨m, ea, te, tp, f, hL, hE, htp, hE0, hcap, hf1, hf2, hob⟩ := hA
  have hne := g_al_ne hL hE
  refine g_entry okJ7_add rfl ?_
  refine gr_aload_n (pc := 0) dJ7_add_0 rfl (by rfl) ?_
  refine gr_dup (pc := 1) dJ7_add_1 rfl ?_
  refine gr_getf (pc := 2) dJ7_add_2 rfl 16 in_J7 rfl 0 rfl q216 (Or.inr q217) (by assumption) (by rfl) ?_
  refine gi_iconst (pc := 5) dJ7_add_5 ?_
  refine gi_iadd (pc := 6) dJ7_add_6 ?_
  refine gr_putf (pc := 7) dJ7_add_7 rfl 16 in_J7 tyJ7 tyJ7_ok nmJ7 rfl 0 rfl q216 (Or.inr q217) rfl rfl rfl rfl (by assumption) (by first | rfl | assumption) (fun G_7 hG_7 => ?_)
  have hL2 := g_eq_s hG_7
  have hE2 := g_eq_n hG_7 hE hne
  have hfr1 : g_fr (o + 1) k G G_7 := g_fr.rf.up' hG_7 (g_own_s hL rfl rfl)
  have hcs2 := hcs.z hfr1.z
  refine gr_aload_n (pc := 10) dJ7_add_10 rfl (by rfl) ?_
  refine gr_aload_n (pc := 11) dJ7_add_11 rfl (by rfl) ?_
  refine gr_aload_n (pc := 12) dJ7_add_12 rfl (by rfl) ?_
  refine gr_getf (pc := 13) dJ7_add_13 rfl 16 in_J7 rfl 1 rfl q213 (Or.inl rfl) (by assumption) (by rfl) ?_
  refine gr_aload_n (pc := 16) dJ7_add_16 rfl (by rfl) ?_
  refine gr_getf (pc := 17) dJ7_add_17 rfl 16 in_J7 rfl 2 rfl q214 (Or.inl rfl) (by assumption) (by rfl) ?_
  refine gr_callV (pc := 20) dJ7_add_20 (t_alAdd2 (m := m + 1) d hL2 hE2 htp hcap hf1 hf2 (fun x hx => (hob x hx).fr hfr1) (hv.fr hfr1) hc hE0 (by obtain ⟨⟨t1, f1, a1, -⟩, -⟩ := hcs2; rw [a1]; simp)) okJ7_add_2 q333 q335 qs0 q95 wdJ7_add_2 (by assumption) rfl rfl (by rfl) (by rfl) (by omega) (by omega) (by omega) ?_ (fun _ _ _ h => h.elim)
  rintro _ G2 ⟨rfl, hA2, hfr2⟩
  refine gi_iconst (pc := 23) dJ7_add_23 ?_
  refine gi_zret1 (pc := 24) dJ7_add_24 rfl ?_
  exact ⟨rfl, hA2, fun b tb e hb hn => hfr2 b tb e (hfr1 b tb e hb hn) hn⟩

set_option maxHeartbeats 1000000 in
theorem t_rangeAdd {o k a cap : Nat} {xs : List Nat} {z : Int} (d : Nat) (hA : g_al w G o k a xs cap) (hc : cap ≤ 10000) (hz : 0 ≤ z) (hz2 : z ≤ xs.length) : g_Met w l mJ7_rangeCheckForAdd d 0 0 [.ref a, .int (iI z)] G (g_rt (fun r G' => r = none ∧ G = G')) := by
  obtain ⟨m, ea, te, tp, f, hL, hE, htp, hE0, hcap, hf1, hf2, hob⟩ := hA
  refine g_entry okJ7_rangeCheckForAdd rfl ?_
  refine gr_iload_n (pc := 0) dJ7_rangeCheckForAdd_0 rfl (by rfl) ?_
  refine gr_aload_n (pc := 1) dJ7_rangeCheckForAdd_1 rfl (by rfl) ?_
  refine gr_getf (pc := 2) dJ7_rangeCheckForAdd_2 rfl 16 in_J7 rfl 2 rfl q214 (Or.inl rfl) (by assumption) (by rfl) ?_
  refine gi_icmpgt (tgt := 12) (pc := 5) dJ7_rangeCheckForAdd_5 (by decide) ⟨by omega, by omega⟩ ⟨by omega, by omega⟩ (fun c_5 => absurd c_5 (by omega)) (fun c_5 => ?_)
  refine gr_iload_n (pc := 8) dJ7_rangeCheckForAdd_8 rfl (by rfl) ?_
  refine gi_ifge (tgt := 25) (pc := 9) dJ7_rangeCheckForAdd_9 (by decide) ⟨by omega, by omega⟩ (fun c_9 => ?_) (fun c_9 => absurd hz c_9)
  refine gr_ret (pc := 25) dJ7_rangeCheckForAdd_25 rfl ?_
  exact ⟨rfl, rfl⟩

set_option maxHeartbeats 1000000 in
theorem t_alAddAt {a cap v o k : Nat} {xs : List Nat} {z : Int} (d : Nat) (hA : g_al w G (o + 1) k a xs cap) (hv : g_obx (o + 1) k G v) (hc : cap ≤ 10000) (hcs : g_cst w G) (hz : 0 ≤ z) (hz2 : z ≤ xs.length) : g_Met w l mJ7_add_3 (d + 6) (if xs.length = cap then 1 else 0) (g_gms xs.length cap) [.ref a, .int (iI z), .ref v] G (g_rt (fun r G' => r = none ∧ g_al w G' (o + 1) k a (xs.insertIdx z.toNat v) (g_cap xs.length cap) ∧ g_fr (o + 1) k G G')) := by
  have hA0 := hA
  obtain ⟨m, ea, te, tp, f, hL, hE, htp, hE0, hcap, hf1, hf2, hob⟩ := hA
  have hne := g_al_ne hL hE
  have hgr : g_gr cap ≤ 100000 ∧ cap < g_gr cap := by
    unfold g_gr
    split <;> omega
  have hfa : g_fa[tp]? = some (.object "java/lang/Object") := by rcases htp with ⟨rfl, -⟩ | ⟨rfl, -⟩ <;> rfl
  refine g_entry okJ7_add_3 rfl ?_
  refine gr_aload_n (pc := 0) dJ7_add_3_0 rfl (by rfl) ?_
  refine gr_iload_n (pc := 1) dJ7_add_3_1 rfl (by rfl) ?_
  refine gr_callV (pc := 2) dJ7_add_3_2 (t_rangeAdd (z := z) d hA0 hc hz hz2) okJ7_rangeCheckForAdd q1172 q1174 qs9 q95 wdJ7_rangeCheckForAdd (by assumption) rfl rfl (by rfl) (by rfl) (by omega) (by omega) (by omega) ?_ (fun _ _ _ h => h.elim)
  rintro _ _ ⟨rfl, rfl⟩
  refine gr_aload_n (pc := 5) dJ7_add_3_5 rfl (by rfl) ?_
  refine gr_dup (pc := 6) dJ7_add_3_6 rfl ?_
  refine gr_getf (pc := 7) dJ7_add_3_7 rfl 16 in_J7 rfl 0 rfl q216 (Or.inr q217) (by assumption) (by rfl) ?_
  refine gi_iconst (pc := 10) dJ7_add_3_10 ?_
  refine gi_iadd (pc := 11) dJ7_add_3_11 ?_
  refine gr_putf (pc := 12) dJ7_add_3_12 rfl 16 in_J7 tyJ7 tyJ7_ok nmJ7 rfl 0 rfl q216 (Or.inr q217) rfl rfl rfl rfl (by assumption) (by first | rfl | assumption) (fun G_12 hG_12 => ?_)
  have hL2 := g_eq_s hG_12
  have hE2 := g_eq_n hG_12 hE hne
  have hfr1 : g_fr (o + 1) k G G_12 := g_fr.rf.up' hG_12 (g_own_s hL rfl rfl)
  refine gr_aload_n (pc := 15) dJ7_add_3_15 rfl (by rfl) ?_
  refine gr_getf (pc := 16) dJ7_add_3_16 rfl 16 in_J7 rfl 2 rfl q214 (Or.inl rfl) (by assumption) (by rfl) ?_
  refine gr_dup (pc := 19) dJ7_add_3_19 rfl ?_
  refine gr_istore_n (pc := 20) dJ7_add_3_20 rfl rfl (by rfl) ?_
  refine gr_aload_n (pc := 21) dJ7_add_3_21 rfl (by rfl) ?_
  refine gr_getf (pc := 22) dJ7_add_3_22 rfl 16 in_J7 rfl 1 rfl q213 (Or.inl rfl) (by assumption) (by rfl) ?_
  refine gr_dup (pc := 25) dJ7_add_3_25 rfl ?_
  refine gr_astore (pc := 26) dJ7_add_3_26 rfl (by rfl) ?_
  refine gr_alen (pc := 28) dJ7_add_3_28 (by assumption) (by first | rfl | assumption) ?_
  refine gi_icmpne (tgt := 38) (pc := 29) dJ7_add_3_29 (by decide) ⟨by omega, by omega⟩ ⟨by omega, by omega⟩ (fun c_29 => ?_) (fun c_29 => ?_)
  · have hlt : xs.length < cap := by omega
    have hte : te = (o + 1, k, 1) ∧ tp = 4 := by
      rcases htp with ⟨h, h2⟩ | ⟨-, -, h, -⟩
      · exact ⟨h2, h⟩
      · omega
    obtain ⟨rfl, rfl⟩ := hte
    have hf9 := hf1
    refine gr_aload (pc := 38) dJ7_add_3_38 (by rfl) ?_
    refine gr_iload_n (pc := 40) dJ7_add_3_40 rfl (by rfl) ?_
    refine gr_aload (pc := 41) dJ7_add_3_41 (by rfl) ?_
    refine gr_iload_n (pc := 43) dJ7_add_3_43 rfl (by rfl) ?_
    refine gi_iconst (pc := 44) dJ7_add_3_44 ?_
    refine gi_iadd (pc := 45) dJ7_add_3_45 ?_
    refine gr_iload_n (pc := 46) dJ7_add_3_46 rfl (by rfl) ?_
    refine gr_iload_n (pc := 47) dJ7_add_3_47 rfl (by rfl) ?_
    refine gi_isub (pc := 48) dJ7_add_3_48 ?_
    refine gr_copy (tp := 4) (pc := 49) dJ7_add_3_49 q1199 rfl 4 rfl (by assumption) (by assumption) (by first | rfl | assumption) ⟨⟨by omega, by omega⟩, by omega⟩ ⟨⟨by omega, by omega⟩, by omega⟩ ⟨⟨by omega, by omega⟩, by omega⟩ (by omega) (by omega) (fun i hi => g_al_ck hf1 hf2 (fun x hx => (hob x hx).fr hfr1) _ (by omega)) (by omega) (by rfl) (fun G_49 hG_49 => ?_)
    have hL4 := g_eq_n hG_49 hL2 (Ne.symm hne)
    have hE4 := g_eq_s hG_49
    have hfr4 := hfr1.up' hG_49 (g_own_s hE rfl rfl)
    refine gr_aload (pc := 52) dJ7_add_3_52 (by rfl) ?_
    refine gr_iload_n (pc := 54) dJ7_add_3_54 rfl (by rfl) ?_
    refine gr_aload_n (pc := 55) dJ7_add_3_55 rfl (by rfl) ?_
    refine gr_aastO (pc := 56) dJ7_add_3_56 (by assumption) (hv.fr hfr4).ob (by first | rfl | assumption) (by first | rfl | assumption) (by omega) (by omega) (by omega) (fun G_56 hG_56 => ?_)
    have hL5 := g_eq_n hG_56 hL4 (Ne.symm hne)
    have hE5 := g_eq_s hG_56
    have hfr5 := hfr4.up' hG_56 (g_own_s hE rfl rfl)
    refine gr_aload_n (pc := 57) dJ7_add_3_57 rfl (by rfl) ?_
    refine gr_iload_n (pc := 58) dJ7_add_3_58 rfl (by rfl) ?_
    refine gi_iconst (pc := 59) dJ7_add_3_59 ?_
    refine gi_iadd (pc := 60) dJ7_add_3_60 ?_
    refine gr_putf (pc := 61) dJ7_add_3_61 rfl 16 in_J7 tyJ7 tyJ7_ok nmJ7 rfl 2 rfl q214 (Or.inl rfl) rfl rfl rfl rfl (by assumption) (by first | rfl | assumption) (fun G_61 hG_61 => ?_)
    refine gr_ret (pc := 64) dJ7_add_3_64 rfl ?_
    have hE6 : G_61 ea = _ := g_eq_n hG_61 hE5 hne
    have hfr := hfr5.up' hG_61 (g_own_s hL rfl rfl)
    refine ⟨rfl, ⟨m + 1, ea, _, 4, _, by rw [g_eq_s hG_61]; simp [List.length_insertIdx, show z.toNat ≤ xs.length by omega], by unfold g_cap; rw [if_neg (by omega)]; exact hE6, Or.inl ⟨rfl, rfl⟩, by unfold g_cap; rw [if_neg (by omega)]; exact hE0, by unfold g_cap; rw [if_neg (by omega), List.length_insertIdx, if_pos (by omega)]; omega, fun j x hx => ?_, fun j h1 h2 => ?_, fun x hx => ?_⟩, hfr⟩
    · rw [List.getElem?_insertIdx] at hx
      by_cases h1 : j < z.toNat
      · rw [if_pos h1] at hx
        rw [g_fu_n (by omega)]
        unfold g_cp
        rw [if_neg (by omega)]
        exact hf9 j x hx
      · rw [if_neg h1] at hx
        by_cases h2 : j = z.toNat
        · rw [if_pos h2, if_pos (by omega)] at hx
          cases hx
          rw [h2]
          exact g_fu_s
        · rw [if_neg h2] at hx
          have hj := (List.getElem?_eq_some_iff.mp hx).1
          rw [g_fu_n h2]
          unfold g_cp
          rw [if_pos (by omega), show z.toNat + (j - (z + 1).toNat) = j - 1 by omega]
          exact hf9 _ x hx
    · rw [List.length_insertIdx, if_pos (by omega)] at h1
      rw [g_fu_n (by omega)]
      unfold g_cp
      rw [if_neg (by omega)]
      exact hf2 j (by omega) (by unfold g_cap at h2; rw [if_neg (by omega)] at h2; exact h2)
    · rcases (List.mem_insertIdx (by omega)).mp hx with h1 | h1
      · rw [h1]
        exact hv.fr hfr
      · exact (hob x h1).fr hfr
  · have hlt : xs.length = cap := by omega
    subst hlt
    refine gr_wid (mc' := 1) (ms' := g_gr xs.length) (by simp) (by simp [g_gms]) ?_
    refine gr_aload_n (pc := 32) dJ7_add_3_32 rfl (by rfl) ?_
    refine gr_callV (pc := 33) dJ7_add_3_33 (t_grow (m := m + 1) d hL2 hE2 htp hc hE0 (g_al_ck hf1 hf2 (fun x hx => (hob x hx).fr hfr1))) okJ7_grow q337 q339 qs1 q95 wdJ7_grow (by assumption) rfl rfl (by rfl) (by rfl) (by omega) (by omega) (by omega) ?_ (fun _ _ _ h => h.elim)
    rintro _ G2 ⟨q, hq, rfl, hG2⟩
    have hq0 : G q = none := by
      cases hh : G q with
      | none => rfl
      | some y =>
        obtain ⟨tb, e⟩ := y
        by_cases hz0 : q = a
        · rw [hz0, hL2] at hq; cases hq
        · rw [g_eq_n hG_12 hh hz0] at hq; cases hq
    have hqa : q ≠ a := fun e => by rw [e, hL2] at hq; cases hq
    have hqE : q ≠ g_c w 2 := fun e => by obtain ⟨⟨t1, f1, a1, -⟩, -⟩ := hcs.z hfr1.z; rw [e, a1] at hq; cases hq
    have hE3 : G2 q = some ((o + 1, k, 1), .inl (4, g_gr xs.length, fun j => if j < xs.length then f j else .null)) := by rw [hG2, g_up_n hqa, g_up_s]
    have hfr2 : g_fr (o + 1) k G G2 := by
      rw [hG2]
      exact (hfr1.up (g_own_n hq0)).up (g_own_s hL rfl rfl)
    have hL3 := g_eq_s hG2
    have hf9 : ∀ (j x : Nat), xs[j]? = some x → (if j < xs.length then f j else Value.null) = .ref x := by
      intro j x hx
      rw [if_pos (List.getElem?_eq_some_iff.mp hx).1]
      exact hf1 j x hx
    refine gr_astore (pc := 36) dJ7_add_3_36 rfl (by rfl) ?_
    refine gr_aload (pc := 38) dJ7_add_3_38 (by rfl) ?_
    refine gr_iload_n (pc := 40) dJ7_add_3_40 rfl (by rfl) ?_
    refine gr_aload (pc := 41) dJ7_add_3_41 (by rfl) ?_
    refine gr_iload_n (pc := 43) dJ7_add_3_43 rfl (by rfl) ?_
    refine gi_iconst (pc := 44) dJ7_add_3_44 ?_
    refine gi_iadd (pc := 45) dJ7_add_3_45 ?_
    refine gr_iload_n (pc := 46) dJ7_add_3_46 rfl (by rfl) ?_
    refine gr_iload_n (pc := 47) dJ7_add_3_47 rfl (by rfl) ?_
    refine gi_isub (pc := 48) dJ7_add_3_48 ?_
    refine gr_copy (tp := 4) (pc := 49) dJ7_add_3_49 q1199 rfl 4 rfl (by assumption) (by assumption) (by first | rfl | assumption) ⟨⟨by omega, by omega⟩, by omega⟩ ⟨⟨by omega, by omega⟩, by omega⟩ ⟨⟨by omega, by omega⟩, by omega⟩ (by omega) (by omega) (fun i hi => g_al_ck (cap := g_gr xs.length) (f := fun j => if j < xs.length then f j else Value.null) hf9 (fun j h1 h2 => if_neg (by omega)) (fun x hx => (hob x hx).fr hfr2) (z.toNat + i) (by omega)) (by omega) (by rfl) (fun G_49 hG_49 => ?_)
    have hL4 := g_eq_n hG_49 hL3 (Ne.symm hqa)
    have hE4 := g_eq_s hG_49
    have hfr4 := hfr2.up' hG_49 (g_own_n hq0)
    refine gr_aload (pc := 52) dJ7_add_3_52 (by rfl) ?_
    refine gr_iload_n (pc := 54) dJ7_add_3_54 rfl (by rfl) ?_
    refine gr_aload_n (pc := 55) dJ7_add_3_55 rfl (by rfl) ?_
    refine gr_aastO (pc := 56) dJ7_add_3_56 (by assumption) (hv.fr hfr4).ob (by first | rfl | assumption) (by first | rfl | assumption) (by omega) (by omega) (by omega) (fun G_56 hG_56 => ?_)
    have hL5 := g_eq_n hG_56 hL4 (Ne.symm hqa)
    have hE5 := g_eq_s hG_56
    have hfr5 := hfr4.up' hG_56 (g_own_n hq0)
    refine gr_aload_n (pc := 57) dJ7_add_3_57 rfl (by rfl) ?_
    refine gr_iload_n (pc := 58) dJ7_add_3_58 rfl (by rfl) ?_
    refine gi_iconst (pc := 59) dJ7_add_3_59 ?_
    refine gi_iadd (pc := 60) dJ7_add_3_60 ?_
    refine gr_putf (pc := 61) dJ7_add_3_61 rfl 16 in_J7 tyJ7 tyJ7_ok nmJ7 rfl 2 rfl q214 (Or.inl rfl) rfl rfl rfl rfl (by assumption) (by first | rfl | assumption) (fun G_61 hG_61 => ?_)
    refine gr_ret (pc := 64) dJ7_add_3_64 rfl ?_
    have hE6 : G_61 q = _ := g_eq_n hG_61 hE5 hqa
    have hfr := hfr5.up' hG_61 (g_own_s hL rfl rfl)
    refine ⟨rfl, ⟨m + 1, q, _, 4, _, by rw [g_eq_s hG_61]; simp [List.length_insertIdx, show z.toNat ≤ xs.length by omega], by unfold g_cap; rw [if_pos rfl]; exact hE6, Or.inl ⟨rfl, rfl⟩, by
      unfold g_cap
      rw [if_pos rfl]
      exact ⟨fun e => absurd e hqE, fun e => by omega⟩, by unfold g_cap; rw [if_pos rfl, List.length_insertIdx, if_pos (by omega)]; omega, fun j x hx => ?_, fun j h1 h2 => ?_, fun x hx => ?_⟩, hfr⟩
    · rw [List.getElem?_insertIdx] at hx
      by_cases h1 : j < z.toNat
      · rw [if_pos h1] at hx
        rw [g_fu_n (by omega)]
        unfold g_cp
        rw [if_neg (by omega)]
        exact hf9 j x hx
      · rw [if_neg h1] at hx
        by_cases h2 : j = z.toNat
        · rw [if_pos h2, if_pos (by omega)] at hx
          cases hx
          rw [h2]
          exact g_fu_s
        · rw [if_neg h2] at hx
          have hj := (List.getElem?_eq_some_iff.mp hx).1
          rw [g_fu_n h2]
          unfold g_cp
          rw [if_pos (by omega), show z.toNat + (j - (z + 1).toNat) = j - 1 by omega]
          exact hf9 _ x hx
    · rw [List.length_insertIdx, if_pos (by omega)] at h1
      rw [g_fu_n (by omega)]
      unfold g_cp
      rw [if_neg (by omega)]
      simp; omega
    · rcases (List.mem_insertIdx (by omega)).mp hx with h1 | h1
      · rw [h1]
        exact hv.fr hfr
      · exact (hob x h1).fr hfr

set_option maxHeartbeats 1000000 in
theorem t_fastRemove {a ea cap o k : Nat} {m : Int} {f : Nat → Value} {xs : List Nat} {z : Int} (d : Nat) (hL : G a = some ((o + 1, k, 0), g_LO m ea xs.length)) (hE : G ea = some ((o + 1, k, 1), .inl (4, cap, f))) (hE0 : ea = g_c w 2 ↔ cap = 0) (hcap : xs.length ≤ cap) (hf1 : ∀ (j x : Nat), xs[j]? = some x → f j = .ref x) (hf2 : ∀ j, xs.length ≤ j → j < cap → f j = .null) (hob : ∀ x ∈ xs, g_obx (o + 1) k G x) (hc : cap ≤ 10000) (hz : 0 ≤ z) (hz2 : z < xs.length) : g_Met w l mJ7_fastRemove (d + 1) 0 0 [.ref a, .ref ea, .int (iI z)] G (g_rt (fun r G' => r = none ∧ g_al w G' (o + 1) k a (xs.eraseIdx z.toNat) cap ∧ g_fr (o + 1) k G G')) := by
  have hne := g_al_ne hL hE
  refine g_entry okJ7_fastRemove rfl ?_
  refine gr_aload_n (pc := 0) dJ7_fastRemove_0 rfl (by rfl) ?_
  refine gr_dup (pc := 1) dJ7_fastRemove_1 rfl ?_
  refine gr_getf (pc := 2) dJ7_fastRemove_2 rfl 16 in_J7 rfl 0 rfl q216 (Or.inr q217) (by assumption) (by rfl) ?_
  refine gi_iconst (pc := 5) dJ7_fastRemove_5 ?_
  refine gi_iadd (pc := 6) dJ7_fastRemove_6 ?_
  refine gr_putf (pc := 7) dJ7_fastRemove_7 rfl 16 in_J7 tyJ7 tyJ7_ok nmJ7 rfl 0 rfl q216 (Or.inr q217) rfl rfl rfl rfl (by assumption) (by first | rfl | assumption) (fun G_7 hG_7 => ?_)
  have hL2 := g_eq_s hG_7
  have hE2 := g_eq_n hG_7 hE hne
  have hfr1 : g_fr (o + 1) k G G_7 := g_fr.rf.up' hG_7 (g_own_s hL rfl rfl)
  refine gr_aload_n (pc := 10) dJ7_fastRemove_10 rfl (by rfl) ?_
  refine gr_getf (pc := 11) dJ7_fastRemove_11 rfl 16 in_J7 rfl 2 rfl q214 (Or.inl rfl) (by assumption) (by rfl) ?_
  refine gi_iconst (pc := 14) dJ7_fastRemove_14 ?_
  refine gi_isub (pc := 15) dJ7_fastRemove_15 ?_
  refine gr_dup (pc := 16) dJ7_fastRemove_16 rfl ?_
  refine gr_istore_n (pc := 17) dJ7_fastRemove_17 rfl rfl (by rfl) ?_
  refine gr_iload_n (pc := 18) dJ7_fastRemove_18 rfl (by rfl) ?_
  refine gi_icmple (tgt := 34) (pc := 19) dJ7_fastRemove_19 (by decide) ⟨by omega, by omega⟩ ⟨by omega, by omega⟩ (fun c_19 => ?_) (fun c_19 => ?_)
  · refine gr_aload_n (pc := 34) dJ7_fastRemove_34 rfl (by rfl) ?_
    refine gr_aload_n (pc := 35) dJ7_fastRemove_35 rfl (by rfl) ?_
    refine gr_iload_n (pc := 36) dJ7_fastRemove_36 rfl (by rfl) ?_
    refine gr_dup_x1 (pc := 37) dJ7_fastRemove_37 rfl rfl ?_
    refine gr_putf (pc := 38) dJ7_fastRemove_38 rfl 16 in_J7 tyJ7 tyJ7_ok nmJ7 rfl 2 rfl q214 (Or.inl rfl) rfl rfl rfl rfl (by assumption) (by first | rfl | assumption) (fun G_38 hG_38 => ?_)
    have hE4 := g_eq_n hG_38 hE2 hne
    have hfr4 := hfr1.up' hG_38 (g_own_s hL rfl rfl)
    refine gr_aconst_null (pc := 41) dJ7_fastRemove_41 ?_
    refine gr_aastN (pc := 42) dJ7_fastRemove_42 (by assumption) (by first | rfl | assumption) (by first | rfl | assumption) (by omega) (by omega) (by omega) (fun G_42 hG_42 => ?_)
    refine gr_ret (pc := 43) dJ7_fastRemove_43 rfl ?_
    have hfr := hfr4.up' hG_42 (g_own_s hE rfl rfl)
    have hL5 := g_eq_n hG_42 (g_eq_s hG_38) (Ne.symm hne)
    refine ⟨rfl, ⟨m + 1, ea, _, 4, _, by rw [hL5, List.length_eraseIdx, if_pos (by omega)]; simp; congr 2; omega, g_eq_s hG_42, Or.inl ⟨rfl, rfl⟩, hE0, by rw [List.length_eraseIdx, if_pos (by omega)]; omega, fun j x hx => ?_, fun j h1 h2 => ?_, fun x hx => (hob x (List.mem_of_mem_eraseIdx hx)).fr hfr⟩, hfr⟩
    · rw [List.getElem?_eraseIdx] at hx
      have hj : j < xs.length - 1 := by
        split at hx
        · have := (List.getElem?_eq_some_iff.mp hx).1
          omega
        · have := (List.getElem?_eq_some_iff.mp hx).1
          omega
      rw [g_fu_n (by omega)]
      rw [if_pos (by omega)] at hx
      exact hf1 j x hx
    · rw [List.length_eraseIdx, if_pos (by omega)] at h1
      by_cases h3 : j = xs.length - 1
      · rw [show j = ((xs.length : Int) - 1).toNat by omega]
        exact g_fu_s
      · rw [g_fu_n (by omega)]
        exact hf2 j (by omega) h2
  · refine gr_aload_n (pc := 22) dJ7_fastRemove_22 rfl (by rfl) ?_
    refine gr_iload_n (pc := 23) dJ7_fastRemove_23 rfl (by rfl) ?_
    refine gi_iconst (pc := 24) dJ7_fastRemove_24 ?_
    refine gi_iadd (pc := 25) dJ7_fastRemove_25 ?_
    refine gr_aload_n (pc := 26) dJ7_fastRemove_26 rfl (by rfl) ?_
    refine gr_iload_n (pc := 27) dJ7_fastRemove_27 rfl (by rfl) ?_
    refine gr_iload_n (pc := 28) dJ7_fastRemove_28 rfl (by rfl) ?_
    refine gr_iload_n (pc := 29) dJ7_fastRemove_29 rfl (by rfl) ?_
    refine gi_isub (pc := 30) dJ7_fastRemove_30 ?_
    refine gr_copy (tp := 4) (pc := 31) dJ7_fastRemove_31 q1199 rfl 4 rfl (by assumption) (by assumption) (by first | rfl | assumption) ⟨⟨by omega, by omega⟩, by omega⟩ ⟨⟨by omega, by omega⟩, by omega⟩ ⟨⟨by omega, by omega⟩, by omega⟩ (by omega) (by omega) (fun i hi => g_al_ck hf1 hf2 (fun x hx => (hob x hx).fr hfr1) _ (by omega)) (by omega) (by rfl) (fun G_31 hG_31 => ?_)
    have hL3 := g_eq_n hG_31 hL2 (Ne.symm hne)
    have hE3 := g_eq_s hG_31
    have hfr3 := hfr1.up' hG_31 (g_own_s hE rfl rfl)
    refine gr_aload_n (pc := 34) dJ7_fastRemove_34 rfl (by rfl) ?_
    refine gr_aload_n (pc := 35) dJ7_fastRemove_35 rfl (by rfl) ?_
    refine gr_iload_n (pc := 36) dJ7_fastRemove_36 rfl (by rfl) ?_
    refine gr_dup_x1 (pc := 37) dJ7_fastRemove_37 rfl rfl ?_
    refine gr_putf (pc := 38) dJ7_fastRemove_38 rfl 16 in_J7 tyJ7 tyJ7_ok nmJ7 rfl 2 rfl q214 (Or.inl rfl) rfl rfl rfl rfl (by assumption) (by first | rfl | assumption) (fun G_38 hG_38 => ?_)
    have hE4 := g_eq_n hG_38 hE3 hne
    have hfr4 := hfr3.up' hG_38 (g_own_s hL rfl rfl)
    refine gr_aconst_null (pc := 41) dJ7_fastRemove_41 ?_
    refine gr_aastN (pc := 42) dJ7_fastRemove_42 (by assumption) (by first | rfl | assumption) (by first | rfl | assumption) (by omega) (by omega) (by omega) (fun G_42 hG_42 => ?_)
    refine gr_ret (pc := 43) dJ7_fastRemove_43 rfl ?_
    have hfr := hfr4.up' hG_42 (g_own_s hE rfl rfl)
    have hL5 := g_eq_n hG_42 (g_eq_s hG_38) (Ne.symm hne)
    refine ⟨rfl, ⟨m + 1, ea, _, 4, _, by rw [hL5, List.length_eraseIdx, if_pos (by omega)]; simp; congr 2; omega, g_eq_s hG_42, Or.inl ⟨rfl, rfl⟩, hE0, by rw [List.length_eraseIdx, if_pos (by omega)]; omega, fun j x hx => ?_, fun j h1 h2 => ?_, fun x hx => (hob x (List.mem_of_mem_eraseIdx hx)).fr hfr⟩, hfr⟩
    · rw [List.getElem?_eraseIdx] at hx
      have hj : j < xs.length - 1 := by
        split at hx
        · have := (List.getElem?_eq_some_iff.mp hx).1
          omega
        · have := (List.getElem?_eq_some_iff.mp hx).1
          omega
      rw [g_fu_n (by omega)]
      unfold g_cp
      split at hx
      · rw [if_neg (by omega)]
        exact hf1 j x hx
      · rw [if_pos (by omega), show (z + 1).toNat + (j - z.toNat) = j + 1 by omega]
        exact hf1 _ x hx
    · rw [List.length_eraseIdx, if_pos (by omega)] at h1
      by_cases h3 : j = xs.length - 1
      · rw [show j = ((xs.length : Int) - 1).toNat by omega]
        exact g_fu_s
      · rw [g_fu_n (by omega)]
        unfold g_cp
        rw [if_neg (by omega)]
        exact hf2 j (by omega) h2

set_option maxHeartbeats 1000000 in
theorem t_alRemove {a cap o k x : Nat} {xs : List Nat} {z : Int} (d : Nat) (hA : g_al w G (o + 1) k a xs cap) (hc : cap ≤ 10000) (hz : 0 ≤ z) (hx : xs[z.toNat]? = some x) : g_Met w l mJ7_remove (d + 2) 0 0 [.ref a, .int (iI z)] G (g_rt (fun r G' => r = some (.ref x) ∧ g_al w G' (o + 1) k a (xs.eraseIdx z.toNat) cap ∧ g_fr (o + 1) k G G')) := by
  obtain ⟨m, ea, te, tp, f, hL, hE, htp, hE0, hcap, hf1, hf2, hob⟩ := hA
  have hzl : z.toNat < xs.length := (List.getElem?_eq_some_iff.mp hx).1
  have htp4 : tp = 4 ∧ te = (o + 1, k, 1) := by
    rcases htp with h | ⟨-, -, h, -⟩
    · exact h
    · omega
  obtain ⟨rfl, rfl⟩ := htp4
  refine g_entry okJ7_remove rfl ?_
  refine gr_iload_n (pc := 0) dJ7_remove_0 rfl (by rfl) ?_
  refine gr_aload_n (pc := 1) dJ7_remove_1 rfl (by rfl) ?_
  refine gr_getf (pc := 2) dJ7_remove_2 rfl 16 in_J7 rfl 2 rfl q214 (Or.inl rfl) (by assumption) (by rfl) ?_
  refine gr_callS (pc := 5) dJ7_remove_5 (t_ocheck (i := z) (n := xs.length) d ⟨by omega, by omega⟩ ⟨by omega, by omega⟩ hz (by omega)) okJ18_checkIndex q490 q491 q112 wdJ18_checkIndex (by rfl) (by rfl) (by omega) (by omega) (by omega) ?_ (fun _ _ _ h => h.elim)
  rintro _ _ ⟨rfl, rfl⟩
  refine gr_pop (pc := 8) dJ7_remove_8 rfl ?_
  refine gr_aload_n (pc := 9) dJ7_remove_9 rfl (by rfl) ?_
  refine gr_getf (pc := 10) dJ7_remove_10 rfl 16 in_J7 rfl 1 rfl q213 (Or.inl rfl) (by assumption) (by rfl) ?_
  refine gr_astore_n (pc := 13) dJ7_remove_13 rfl rfl (by rfl) ?_
  refine gr_aload_n (pc := 14) dJ7_remove_14 rfl (by rfl) ?_
  refine gr_iload_n (pc := 15) dJ7_remove_15 rfl (by rfl) ?_
  refine gr_aald (pc := 16) dJ7_remove_16 (by assumption) (by first | rfl | assumption) rfl (by omega) (by omega) (by omega) (hf1 _ _ hx) ?_
  refine gr_astore_n (pc := 17) dJ7_remove_17 rfl rfl (by rfl) ?_
  refine gr_aload_n (pc := 18) dJ7_remove_18 rfl (by rfl) ?_
  refine gr_aload_n (pc := 19) dJ7_remove_19 rfl (by rfl) ?_
  refine gr_iload_n (pc := 20) dJ7_remove_20 rfl (by rfl) ?_
  refine gr_callV (pc := 21) dJ7_remove_21 (t_fastRemove (z := z) d hL hE hE0 hcap hf1 hf2 hob hc hz (by omega)) okJ7_fastRemove q1540 q1542 qs25 q95 wdJ7_fastRemove (by assumption) rfl rfl (by rfl) (by rfl) (by omega) (by omega) (by omega) ?_ (fun _ _ _ h => h.elim)
  rintro _ G2 ⟨rfl, hA2, hfr2⟩
  refine gr_aload_n (pc := 24) dJ7_remove_24 rfl (by rfl) ?_
  refine gr_aret (pc := 25) dJ7_remove_25 rfl (Or.inl ⟨_, rfl⟩) (Or.inr ⟨_, rfl⟩) ?_
  exact ⟨rfl, hA2, hfr2⟩

end P50
