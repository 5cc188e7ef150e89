/-! ArrayList -/
set_option maxRecDepth 100000
/-- a list's object: modCount, its array, its size -/
abbrev g_LO (m : Int) (ea : Nat) (n : Nat) : g_E := .inr (16, [.int (iI m), .ref ea, .int (iI n)])
theorem g_up_up {G : g_H} {a : Nat} {x y : g_T × g_E} : g_up (g_up G a x) a y = g_up G a y := by
  funext q
  unfold g_up
  split <;> rfl
def g_fr (o k : Nat) (G G' : g_H) : Prop := ∀ (b : Nat) (tb : g_T) (e : g_E), G b = some (tb, e) → ¬ (tb.1 = o ∧ tb.2.1 = k) → G' b = some (tb, e)
theorem g_fr.rf {o k : Nat} {G : g_H} : g_fr o k G G := fun _ _ _ h _ => h
theorem g_fr.up {o k : Nat} {G G1 : g_H} {a : Nat} {x : g_T × g_E} (h : g_fr o k G G1) (ha : ∀ (tb : g_T) (e : g_E), G a = some (tb, e) → tb.1 = o ∧ tb.2.1 = k) : g_fr o k G (g_up G1 a x) := by
  intro b tb e hb hn
  rw [g_up_n]
  · exact h b tb e hb hn
  · rintro rfl
    exact hn (ha tb e hb)
theorem g_fr.up' {o k : Nat} {G G1 G2 : g_H} {a : Nat} {x : g_T × g_E} (h : g_fr o k G G1) (e : G2 = g_up G1 a x) (ha : ∀ (tb : g_T) (e : g_E), G a = some (tb, e) → tb.1 = o ∧ tb.2.1 = k) : g_fr o k G G2 := by rw [e]; exact h.up ha
theorem g_own_s {o k : Nat} {G : g_H} {a : Nat} {t : g_T} {e : g_E} (h : G a = some (t, e)) (h1 : t.1 = o) (h2 : t.2.1 = k) : ∀ (tb : g_T) (e : g_E), G a = some (tb, e) → tb.1 = o ∧ tb.2.1 = k := by
  intro tb e' h'
  rw [h] at h'
  cases h'
  exact ⟨h1, h2⟩
theorem g_own_n {o k : Nat} {G : g_H} {a : Nat} (h : G a = none) : ∀ (tb : g_T) (e : g_E), G a = some (tb, e) → tb.1 = o ∧ tb.2.1 = k := by
  intro tb e' h'
  rw [h] at h'
  cases h'
/-- an object that no cell of (o, k) is -/
def g_obx (o k : Nat) (G : g_H) (x : Nat) : Prop := ∃ (tx : g_T) (ci : Nat) (fs : List Value), G x = some (tx, .inr (ci, fs)) ∧ ¬ (tx.1 = o ∧ tx.2.1 = k)
theorem g_obx.ob {o k : Nat} {G : g_H} {x : Nat} (h : g_obx o k G x) : g_ob G x := by
  obtain ⟨tx, ci, fs, h1, -⟩ := h
  exact ⟨tx, ci, fs, h1⟩
theorem g_obx.fr {o k : Nat} {G G' : g_H} {x : Nat} (h : g_obx o k G x) (hf : g_fr o k G G') : g_obx o k G' x := by
  obtain ⟨tx, ci, fs, h1, h2⟩ := h
  exact ⟨tx, ci, fs, hf x tx _ h1 h2, h2⟩
/-- a list at a, labelled (o, k): its elements' addresses, its capacity -/
def g_al (w : g_W) (G : g_H) (o k a : Nat) (xs : List Nat) (cap : Nat) : Prop :=
  ∃ (m : Int) (ea : Nat) (te : g_T) (tp : Nat) (f : Nat → Value), G a = some ((o, k, 0), g_LO m ea xs.length) ∧ G ea = some (te, .inl (tp, cap, f)) ∧ ((tp = 4 ∧ te = (o, k, 1)) ∨ (tp = 13 ∧ ea = g_c w 2 ∧ cap = 0 ∧ te.1 = 0)) ∧
    xs.length ≤ cap ∧ (∀ (j x : Nat), xs[j]? = some x → f j = .ref x) ∧ (∀ j, xs.length ≤ j → f j = .null) ∧ (∀ x ∈ xs, g_obx o k G x)
/-- the next capacity -/
def g_gr (cap : Nat) : Nat := if cap = 0 then 10 else cap + max 1 (cap / 2)
def g_cap (n cap : Nat) : Nat := if n = cap then g_gr cap else cap
def g_gms (n cap : Nat) : Nat := if n = cap then g_gr cap else 0
theorem g_shr1 (c : Nat) (h : c < 2147483648) : iI (c : Int) >>> (iI 1 &&& 31) = iI ((c / 2 : Nat) : Int) := by
  rw [iI_nI, iI_nI]
  exact pk_shrN h (iI 1 &&& 31) 1 (by decide)
theorem g_al_ne {w : g_W} {G : g_H} {o k a ea cap n tp : Nat} {m : Int} {te : g_T} {f : Nat → Value} (h1 : G a = some ((o, k, 0), g_LO m ea n)) (h2 : G ea = some (te, .inl (tp, cap, f))) : ea ≠ a := g_ne h1 h2 (by simp)
section P50
variable {w : g_W} {l : Launch} {G : g_H}
set_option maxHeartbeats 1000000 in
theorem t_copyOf2 {a n cap tp : Nat} {t : g_T} {f : Nat → Value} (t2 : g_T) (d : Nat) (hG : G a = some (t, .inl (tp, n, f))) (htp : tp = 4) (hcap : n ≤ cap) (hc2 : cap ≤ 100000) (hv : ∀ i, i < n → g_ck G 4 (f i)) (ht2 : Nat.blt 0 t2.1 = true) : g_Met w l mJ12_copyOf_2 (d + 1) 1 cap [.ref a, .int (iI cap), .ref (g_c w g_mir)] G (g_rt (fun r G' => ∃ q, G q = none ∧ r = some (.ref q) ∧ G' = g_up G q (t2, .inl (4, cap, fun j => if j < n then f j else .null)))) := by
  subst htp
  refine g_entry okJ12_copyOf_2 rfl ?_
  refine gr_aload_n (pc := 0) dJ12_copyOf_2_0 rfl (by rfl) ?_
  refine gr_ldcM (pc := 1) dJ12_copyOf_2_1 q390 ?_
  refine gr_acmpne (tgt := 13) (pc := 3) dJ12_copyOf_2_3 (by decide) (fun c_3 => absurd rfl c_3) (fun c_3 => ?_)
  refine gr_iload_n (pc := 6) dJ12_copyOf_2_6 rfl (by rfl) ?_
  refine gr_anew t2 (cap) 4 (pc := 7) dJ12_copyOf_2_7 rfl q391 q149 rfl (by omega) (by omega) (by omega) (fun q_7 G_7 hf_7 hG_7 => ?_)
  have hq := g_eq_s hG_7
  have ha7 := g_eq_n hG_7 hG (g_nf hf_7 hG)
  refine gr_goto (tgt := 24) (pc := 10) dJ12_copyOf_2_10 (by decide) ?_
  refine gr_astore_n (pc := 24) dJ12_copyOf_2_24 rfl rfl (by rfl) ?_
  refine gr_aload_n (pc := 25) dJ12_copyOf_2_25 rfl (by rfl) ?_
  refine gi_iconst (pc := 26) dJ12_copyOf_2_26 ?_
  refine gr_aload_n (pc := 27) dJ12_copyOf_2_27 rfl (by rfl) ?_
  refine gi_iconst (pc := 28) dJ12_copyOf_2_28 ?_
  refine gr_aload_n (pc := 29) dJ12_copyOf_2_29 rfl (by rfl) ?_
  refine gr_alen (pc := 30) dJ12_copyOf_2_30 (by assumption) (by rfl) ?_
  refine gr_iload_n (pc := 31) dJ12_copyOf_2_31 rfl (by rfl) ?_
  refine gi_mmin (pc := 32) dJ12_copyOf_2_32 q392 ⟨by omega, by omega⟩ ⟨by omega, by omega⟩ (by omega) (by rfl) ?_
  refine gr_copy (tp := 4) (pc := 35) dJ12_copyOf_2_35 q395 rfl 4 rfl (by assumption) (by assumption) (by first | rfl | assumption) ⟨⟨by omega, by omega⟩, by omega⟩ ⟨⟨by omega, by omega⟩, by omega⟩ ⟨⟨by omega, by omega⟩, by omega⟩ (by omega) (by omega) (fun i hi => by
          have h3 : i < n := by omega
          have h4 := hv i h3
          rw [show (0 : Int).toNat + i = i by simp]
          cases hfi : f i with
          | ref x =>
            rw [hfi] at h4
            obtain ⟨h5, tv, ci, fs, h6⟩ := h4
            exact ⟨h5, tv, ci, fs, g_eq_n hG_7 h6 (g_nf hf_7 h6)⟩
          | _ => rw [hfi] at h4; exact h4) (by omega) (by rfl) (fun G_35 hG_35 => ?_)
  refine gr_aload_n (pc := 38) dJ12_copyOf_2_38 rfl (by rfl) ?_
  refine gr_aret (pc := 39) dJ12_copyOf_2_39 rfl (Or.inr ⟨_, rfl⟩) (Or.inr ⟨_, rfl⟩) ?_
  refine ⟨q_7, hf_7, rfl, ?_⟩
  rw [hG_35, hG_7]
  have e1 : (min (n : Int) (cap : Int)).toNat = n := by omega
  have e2 : g_cp f (fun _ => Value.null) (Int.toNat 0) (Int.toNat 0) (min (n : Int) (cap : Int)).toNat = fun j => if j < n then f j else .null := by
    funext j
    unfold g_cp
    simp [e1]
  rw [e2]
  exact g_up_up

end P50
