/-! small leaves: Integer.compare, Stamp, Register, Line, isIn -/
set_option maxRecDepth 100000
section P40
variable {w : g_W} {l : Launch} {G : g_H}
set_option maxHeartbeats 1000000 in
theorem t_compare {a b : Int} (d : Nat) (ha : g_i32 a) (hb : g_i32 b) : g_Met w l mJ9_compare d 0 0 [.int (iI a), .int (iI b)] G (g_rv (.int (iI (g_sg a b))) G) := by
  refine g_entry okJ9_compare rfl ?_
  refine gr_iload_n (pc := 0) dJ9_compare_0 rfl (by rfl) ?_
  refine gr_iload_n (pc := 1) dJ9_compare_1 rfl (by rfl) ?_
  refine gi_icmpge (tgt := 9) (pc := 2) dJ9_compare_2 (by decide) (by assumption) (by assumption) (fun c_2 => ?_) (fun c_2 => ?_)
  · refine gr_iload_n (pc := 9) dJ9_compare_9 rfl (by rfl) ?_
    refine gr_iload_n (pc := 10) dJ9_compare_10 rfl (by rfl) ?_
    refine gi_icmpne (tgt := 18) (pc := 11) dJ9_compare_11 (by decide) (by assumption) (by assumption) (fun c_11 => ?_) (fun c_11 => ?_)
    · refine gi_iconst (pc := 18) dJ9_compare_18 ?_
      refine gi_iret (pc := 19) dJ9_compare_19 rfl ?_
      exact ⟨by rw [g_sg_gt (by omega)], rfl⟩
    · refine gi_iconst (pc := 14) dJ9_compare_14 ?_
      refine gr_goto (tgt := 19) (pc := 15) dJ9_compare_15 (by decide) ?_
      refine gi_iret (pc := 19) dJ9_compare_19 rfl ?_
      exact ⟨by rw [g_sg_eq (by omega)], rfl⟩
  · refine gi_iconst (pc := 5) dJ9_compare_5 ?_
    refine gr_goto (tgt := 19) (pc := 6) dJ9_compare_6 (by decide) ?_
    refine gi_iret (pc := 19) dJ9_compare_19 rfl ?_
    exact ⟨by rw [g_sg_lt (by omega)], rfl⟩

set_option maxHeartbeats 1000000 in
theorem t_isIn {v lo hi : Int} (d : Nat) (hv : g_i32 v) (hl : g_i32 lo) (hh : g_i32 hi) : g_Met w l mX1_isIn d 0 0 [.int (iI v), .int (iI lo), .int (iI hi)] G (g_rv (.int (iI (g_bi (decide (lo ≤ v ∧ v ≤ hi))))) G) := by
  refine g_entry okX1_isIn rfl ?_
  refine gr_iload_n (pc := 0) dX1_isIn_0 rfl (by rfl) ?_
  refine gr_iload_n (pc := 1) dX1_isIn_1 rfl (by rfl) ?_
  refine gi_icmplt (tgt := 14) (pc := 2) dX1_isIn_2 (by decide) (by assumption) (by assumption) (fun c_2 => ?_) (fun c_2 => ?_)
  · refine gi_iconst (pc := 14) dX1_isIn_14 ?_
    refine gi_zret0 (pc := 15) dX1_isIn_15 rfl ?_
    exact ⟨by rw [decide_eq_false (by omega)], rfl⟩
  · refine gr_iload_n (pc := 5) dX1_isIn_5 rfl (by rfl) ?_
    refine gr_iload_n (pc := 6) dX1_isIn_6 rfl (by rfl) ?_
    refine gi_icmpgt (tgt := 14) (pc := 7) dX1_isIn_7 (by decide) (by assumption) (by assumption) (fun c_7 => ?_) (fun c_7 => ?_)
    · refine gi_iconst (pc := 14) dX1_isIn_14 ?_
      refine gi_zret0 (pc := 15) dX1_isIn_15 rfl ?_
      exact ⟨by rw [decide_eq_false (by omega)], rfl⟩
    · refine gi_iconst (pc := 10) dX1_isIn_10 ?_
      refine gr_goto (tgt := 15) (pc := 11) dX1_isIn_11 (by decide) ?_
      refine gi_zret1 (pc := 15) dX1_isIn_15 rfl ?_
      exact ⟨by rw [decide_eq_true (by omega)], rfl⟩

set_option maxHeartbeats 1000000 in
theorem t_stampCmp {a b : Nat} {ta tb : g_T} {c1 r1 c2 r2 : Int} (d : Nat) (ha : G a = some (ta, .inr (7, [.int (iI c1), .int (iI r1)]))) (hb : G b = some (tb, .inr (7, [.int (iI c2), .int (iI r2)]))) (h1 : g_i32 c1) (h2 : g_i32 r1) (h3 : g_i32 c2) (h4 : g_i32 r2) : g_Met w l mX8_compareTo_2 (d + 1) 0 0 [.ref a, .ref b] G (g_rv (.int (iI (if c1 = c2 then g_sg r1 r2 else g_sg c1 c2))) G) := by
  refine g_entry okX8_compareTo_2 rfl ?_
  refine gr_aload_n (pc := 0) dX8_compareTo_2_0 rfl (by rfl) ?_
  refine gr_getf (pc := 1) dX8_compareTo_2_1 rfl 7 in_X8 rfl 0 rfl q1484 (Or.inl rfl) (by assumption) (by rfl) ?_
  refine gr_aload_n (pc := 4) dX8_compareTo_2_4 rfl (by rfl) ?_
  refine gr_getf (pc := 5) dX8_compareTo_2_5 rfl 7 in_X8 rfl 0 rfl q1484 (Or.inl rfl) (by assumption) (by rfl) ?_
  refine gi_icmpeq (tgt := 25) (pc := 8) dX8_compareTo_2_8 (by decide) (by assumption) (by assumption) (fun c_8 => ?_) (fun c_8 => ?_)
  · refine gr_aload_n (pc := 25) dX8_compareTo_2_25 rfl (by rfl) ?_
    refine gr_getf (pc := 26) dX8_compareTo_2_26 rfl 7 in_X8 rfl 1 rfl q1488 (Or.inl rfl) (by assumption) (by rfl) ?_
    refine gr_aload_n (pc := 29) dX8_compareTo_2_29 rfl (by rfl) ?_
    refine gr_getf (pc := 30) dX8_compareTo_2_30 rfl 7 in_X8 rfl 1 rfl q1488 (Or.inl rfl) (by assumption) (by rfl) ?_
    refine gr_callS (pc := 33) dX8_compareTo_2_33 (t_compare d h2 h4) okJ9_compare q632 q633 q99 wdJ9_compare (by rfl) (by rfl) (by omega) (by omega) (by omega) ?_ (fun _ _ _ h => h.elim)
    rintro _ _ ⟨rfl, rfl⟩
    refine gi_iret (pc := 36) dX8_compareTo_2_36 rfl ?_
    exact ⟨by simp [*], rfl⟩
  · refine gr_aload_n (pc := 11) dX8_compareTo_2_11 rfl (by rfl) ?_
    refine gr_getf (pc := 12) dX8_compareTo_2_12 rfl 7 in_X8 rfl 0 rfl q1484 (Or.inl rfl) (by assumption) (by rfl) ?_
    refine gr_aload_n (pc := 15) dX8_compareTo_2_15 rfl (by rfl) ?_
    refine gr_getf (pc := 16) dX8_compareTo_2_16 rfl 7 in_X8 rfl 0 rfl q1484 (Or.inl rfl) (by assumption) (by rfl) ?_
    refine gr_callS (pc := 19) dX8_compareTo_2_19 (t_compare d h1 h3) okJ9_compare q632 q633 q99 wdJ9_compare (by rfl) (by rfl) (by omega) (by omega) (by omega) ?_ (fun _ _ _ h => h.elim)
    rintro _ _ ⟨rfl, rfl⟩
    refine gr_goto (tgt := 36) (pc := 22) dX8_compareTo_2_22 (by decide) ?_
    refine gi_iret (pc := 36) dX8_compareTo_2_36 rfl ?_
    exact ⟨by simp [*], rfl⟩

end P40
