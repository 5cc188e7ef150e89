/-! rows of the judgement over mathematical integers -/
set_option maxRecDepth 100000
abbrev g_i32 (a : Int) : Prop := -2147483648 ≤ a ∧ a < 2147483648
abbrev g_i64 (a : Int) : Prop := -9223372036854775808 ≤ a ∧ a < 9223372036854775808
def g_bi (b : Bool) : Int := if b then 1 else 0
theorem g_bi_t : g_bi true = 1 := rfl
theorem g_bi_f : g_bi false = 0 := rfl
theorem g_bi_rg (b : Bool) : g_i32 (g_bi b) := by cases b <;> decide
def g_sg (a b : Int) : Int := if a < b then -1 else if a = b then 0 else 1
theorem g_sg_rg (a b : Int) : g_i32 (g_sg a b) := by
  unfold g_sg
  split
  · decide
  · split <;> decide
theorem g_sg_lt {a b : Int} (h : a < b) : g_sg a b = -1 := if_pos h
theorem g_sg_eq {a b : Int} (h : a = b) : g_sg a b = 0 := by unfold g_sg; rw [if_neg (by omega), if_pos h]
theorem g_sg_gt {a b : Int} (h : b < a) : g_sg a b = 1 := by unfold g_sg; rw [if_neg (by omega), if_neg (by omega)]
theorem lI_cmp {a b : Int} (ha : g_i64 a) (hb : g_i64 b) : lg_cmp (lI a) (lI b) = iI (g_sg a b) := by
  unfold lg_cmp g_sg
  simp only [Int64.lt_iff_toInt_lt, ← Int64.toInt_inj, lI_toInt ha.1 ha.2, lI_toInt hb.1 hb.2, gt_iff_lt]
  repeat' split
  all_goals first | rfl | omega
theorem iI_rem {a b : Int} (ha : -2147483648 < a ∧ a < 2147483648) (hb : g_i32 b) : iI a - iI a / iI b * iI b = iI (a.tmod b) := by
  rw [iI_div ha hb, iI_mul, iI_sub]
  congr 1
  have := Int.mul_tdiv_add_tmod a b
  rw [Int.mul_comm] at this
  omega
theorem iI_ne0 {a : Int} (ha : g_i32 a) (h : a ≠ 0) : ¬ iI a = 0 := fun q => h ((iI_eq ha (by decide)).mp (q.trans iI_0))
theorem iI_char {a : Int} (h : 0 ≤ a) (h2 : a < 65536) : ((iI a).toUInt32 % 65536).toInt32 = iI a := by
  obtain ⟨n, rfl⟩ : ∃ n : Nat, a = (n : Int) := ⟨a.toNat, by omega⟩
  rw [iI_nI, pk_char, pk_tn (by omega), Nat.mod_eq_of_lt (by omega)]
section GI1
variable {w : g_W} {l : Launch} {M : g_M} {d mc ms pc : Nat} {ls : g_L} {st : List Value} {G : g_H} {Q : g_Q}
theorem gi_iconst {n : Int} (hd : decode M.2.1 pc = .ok (.iconst n, 1)) (k : g_RF w l M d mc ms (pc + 1) ls (.int (iI n) :: st) G Q) : g_RF w l M d mc ms pc ls st G Q := gr_iconst (v := iI n) hd rfl k
theorem gi_bipush {n : Int} (hd : decode M.2.1 pc = .ok (.bipush n, 2)) (hv : (Int8.ofInt n).toInt32 = iI n) (k : g_RF w l M d mc ms (pc + 2) ls (.int (iI n) :: st) G Q) : g_RF w l M d mc ms pc ls st G Q := gr_bipush (v := iI n) hd hv k
theorem gi_sipush {n : Int} (hd : decode M.2.1 pc = .ok (.sipush n, 3)) (hv : (Int16.ofInt n).toInt32 = iI n) (k : g_RF w l M d mc ms (pc + 3) ls (.int (iI n) :: st) G Q) : g_RF w l M d mc ms pc ls st G Q := gr_sipush (v := iI n) hd hv k
theorem gi_lconst {n : Fin 2} (z : Int) (hd : decode M.2.1 pc = .ok (.lconst n, 1)) (hv : Int64.ofNat (n : Nat) = lI z) (k : g_RF w l M d mc ms (pc + 1) ls (.long (lI z) :: st) G Q) : g_RF w l M d mc ms pc ls st G Q := gr_lconst (v := lI z) hd hv k
theorem gi_ldc {idx : Nat} {v : Int32} (z : Int) (hd : decode M.2.1 pc = .ok (.ldc idx, 2)) (hq : Cond.constant M.1.cls idx v ∈ lw_all) (hv : v = iI z) (k : g_RF w l M d mc ms (pc + 2) ls (.int (iI z) :: st) G Q) : g_RF w l M d mc ms pc ls st G Q := gr_ldc (v := v) hd hq (by rw [hv]; exact k)
theorem gi_ldc2 {idx : Nat} {v : Int64} (z : Int) (hd : decode M.2.1 pc = .ok (.ldc2_w idx, 3)) (hq : Cond.constantLong M.1.cls idx v ∈ lw_all) (hv : v = lI z) (k : g_RF w l M d mc ms (pc + 3) ls (.long (lI z) :: st) G Q) : g_RF w l M d mc ms pc ls st G Q := gr_ldc2 (v := v) hd hq (by rw [hv]; exact k)
theorem gi_iinc {i : Nat} {n a : Int} (hd : decode M.2.1 pc = .ok (.iinc i n, 3)) (hx : g_lk ls i = some (.int (iI a))) (hn : Nat.blt i M.2.2.1 = true) (hc : g_ncl ls i = true) (k : g_RF w l M d mc ms (pc + 3) ((i, some (.int (iI (a + n)))) :: ls) st G Q) : g_RF w l M d mc ms pc ls st G Q := gr_iinc hd hx (iI_add a n) hn hc k
theorem gi_ineg {a : Int} (hd : decode M.2.1 pc = .ok (.ineg, 1)) (k : g_RF w l M d mc ms (pc + 1) ls (.int (iI (-a)) :: st) G Q) : g_RF w l M d mc ms pc ls (.int (iI a) :: st) G Q := gr_ineg hd (by rw [iI_neg]; exact k)
theorem gi_lneg {a : Int} (hd : decode M.2.1 pc = .ok (.lneg, 1)) (k : g_RF w l M d mc ms (pc + 1) ls (.long (lI (-a)) :: st) G Q) : g_RF w l M d mc ms pc ls (.long (lI a) :: st) G Q := gr_lneg hd (by rw [lI_neg]; exact k)
theorem gi_idiv {a b : Int} (hd : decode M.2.1 pc = .ok (.idiv, 1)) (ha : -2147483648 < a ∧ a < 2147483648) (hb : g_i32 b) (h0 : b ≠ 0) (k : g_RF w l M d mc ms (pc + 1) ls (.int (iI (a.tdiv b)) :: st) G Q) : g_RF w l M d mc ms pc ls (.int (iI b) :: .int (iI a) :: st) G Q := gr_idiv hd (iI_ne0 hb h0) (by rw [iI_div ha hb]; exact k)
theorem gi_irem {a b : Int} (hd : decode M.2.1 pc = .ok (.irem, 1)) (ha : -2147483648 < a ∧ a < 2147483648) (hb : g_i32 b) (h0 : b ≠ 0) (k : g_RF w l M d mc ms (pc + 1) ls (.int (iI (a.tmod b)) :: st) G Q) : g_RF w l M d mc ms pc ls (.int (iI b) :: .int (iI a) :: st) G Q := gr_irem hd (iI_ne0 hb h0) (by rw [iI_rem ha hb]; exact k)
theorem gi_i2l {a : Int} (hd : decode M.2.1 pc = .ok (.i2l, 1)) (ha : g_i32 a) (k : g_RF w l M d mc ms (pc + 1) ls (.long (lI a) :: st) G Q) : g_RF w l M d mc ms pc ls (.int (iI a) :: st) G Q := gr_i2l hd (by rw [lI_i ha.1 ha.2]; exact k)
theorem gi_l2i {a : Int} (hd : decode M.2.1 pc = .ok (.l2i, 1)) (k : g_RF w l M d mc ms (pc + 1) ls (.int (iI a) :: st) G Q) : g_RF w l M d mc ms pc ls (.long (lI a) :: st) G Q := gr_l2i hd (by rw [iI_l]; exact k)
theorem gi_i2c {a : Int} (hd : decode M.2.1 pc = .ok (.i2c, 1)) (h1 : 0 ≤ a) (h2 : a < 65536) (k : g_RF w l M d mc ms (pc + 1) ls (.int (iI a) :: st) G Q) : g_RF w l M d mc ms pc ls (.int (iI a) :: st) G Q := gr_i2c hd (iI_char h1 h2) k
theorem gi_lcmp {a b : Int} (hd : decode M.2.1 pc = .ok (.lcmp, 1)) (ha : g_i64 a) (hb : g_i64 b) (k : g_RF w l M d mc ms (pc + 1) ls (.int (iI (g_sg a b)) :: st) G Q) : g_RF w l M d mc ms pc ls (.long (lI b) :: .long (lI a) :: st) G Q := gr_lcmp hd (by rw [lI_cmp ha hb]; exact k)
theorem gi_iadd {a b : Int} (hd : decode M.2.1 pc = .ok (.iadd, 1)) (k : g_RF w l M d mc ms (pc + 1) ls (.int (iI (a + b)) :: st) G Q) : g_RF w l M d mc ms pc ls (.int (iI b) :: .int (iI a) :: st) G Q := gr_iadd hd (by rw [iI_add]; exact k)
theorem gi_isub {a b : Int} (hd : decode M.2.1 pc = .ok (.isub, 1)) (k : g_RF w l M d mc ms (pc + 1) ls (.int (iI (a - b)) :: st) G Q) : g_RF w l M d mc ms pc ls (.int (iI b) :: .int (iI a) :: st) G Q := gr_isub hd (by rw [iI_sub]; exact k)
theorem gi_imul {a b : Int} (hd : decode M.2.1 pc = .ok (.imul, 1)) (k : g_RF w l M d mc ms (pc + 1) ls (.int (iI (a * b)) :: st) G Q) : g_RF w l M d mc ms pc ls (.int (iI b) :: .int (iI a) :: st) G Q := gr_imul hd (by rw [iI_mul]; exact k)
theorem gi_ladd {a b : Int} (hd : decode M.2.1 pc = .ok (.ladd, 1)) (k : g_RF w l M d mc ms (pc + 1) ls (.long (lI (a + b)) :: st) G Q) : g_RF w l M d mc ms pc ls (.long (lI b) :: .long (lI a) :: st) G Q := gr_ladd hd (by rw [lI_add]; exact k)
theorem gi_lsub {a b : Int} (hd : decode M.2.1 pc = .ok (.lsub, 1)) (k : g_RF w l M d mc ms (pc + 1) ls (.long (lI (a - b)) :: st) G Q) : g_RF w l M d mc ms pc ls (.long (lI b) :: .long (lI a) :: st) G Q := gr_lsub hd (by rw [lI_sub]; exact k)
theorem gi_lmul {a b : Int} (hd : decode M.2.1 pc = .ok (.lmul, 1)) (k : g_RF w l M d mc ms (pc + 1) ls (.long (lI (a * b)) :: st) G Q) : g_RF w l M d mc ms pc ls (.long (lI b) :: .long (lI a) :: st) G Q := gr_lmul hd (by rw [lI_mul]; exact k)
-- machine: x = y | ¬ x = y
theorem gi_icmpeq {a b : Int} {off : Int} {tgt : Nat} (hd : decode M.2.1 pc = .ok (.if_icmp .eq off, 3)) (ht : (pc : Int) + off = (tgt : Int)) (ha : g_i32 a) (hb : g_i32 b) (kt : a = b → g_RF w l M d mc ms tgt ls st G Q) (kf : ¬ a = b → g_RF w l M d mc ms (pc + 3) ls st G Q) : g_RF w l M d mc ms pc ls (.int (iI b) :: .int (iI a) :: st) G Q := gr_icmpeq hd ht (fun q => kt (by simpa only [gt_iff_lt, ge_iff_le, iI_eq ha hb, iI_eq hb ha, iI_lt ha hb, iI_lt hb ha, iI_le ha hb, iI_le hb ha] using q)) (fun q => kf (by simpa only [gt_iff_lt, ge_iff_le, iI_eq ha hb, iI_eq hb ha, iI_lt ha hb, iI_lt hb ha, iI_le ha hb, iI_le hb ha] using q))
theorem gi_ifeq {a : Int} {off : Int} {tgt : Nat} (hd : decode M.2.1 pc = .ok (.ifCond .eq off, 3)) (ht : (pc : Int) + off = (tgt : Int)) (ha : g_i32 a) (kt : a = 0 → g_RF w l M d mc ms tgt ls st G Q) (kf : ¬ a = 0 → g_RF w l M d mc ms (pc + 3) ls st G Q) : g_RF w l M d mc ms pc ls (.int (iI a) :: st) G Q := by
  have hb : g_i32 0 := by decide
  exact gr_ifeq hd ht (fun q => kt (by simpa only [iI_0, gt_iff_lt, ge_iff_le, iI_eq ha hb, iI_eq hb ha, iI_lt ha hb, iI_lt hb ha, iI_le ha hb, iI_le hb ha] using q)) (fun q => kf (by simpa only [iI_0, gt_iff_lt, ge_iff_le, iI_eq ha hb, iI_eq hb ha, iI_lt ha hb, iI_lt hb ha, iI_le ha hb, iI_le hb ha] using q))
-- machine: ¬ x = y | x = y
theorem gi_icmpne {a b : Int} {off : Int} {tgt : Nat} (hd : decode M.2.1 pc = .ok (.if_icmp .ne off, 3)) (ht : (pc : Int) + off = (tgt : Int)) (ha : g_i32 a) (hb : g_i32 b) (kt : ¬ a = b → g_RF w l M d mc ms tgt ls st G Q) (kf : a = b → g_RF w l M d mc ms (pc + 3) ls st G Q) : g_RF w l M d mc ms pc ls (.int (iI b) :: .int (iI a) :: st) G Q := gr_icmpne hd ht (fun q => kt (by simpa only [gt_iff_lt, ge_iff_le, iI_eq ha hb, iI_eq hb ha, iI_lt ha hb, iI_lt hb ha, iI_le ha hb, iI_le hb ha] using q)) (fun q => kf (by simpa only [gt_iff_lt, ge_iff_le, iI_eq ha hb, iI_eq hb ha, iI_lt ha hb, iI_lt hb ha, iI_le ha hb, iI_le hb ha] using q))
theorem gi_ifne {a : Int} {off : Int} {tgt : Nat} (hd : decode M.2.1 pc = .ok (.ifCond .ne off, 3)) (ht : (pc : Int) + off = (tgt : Int)) (ha : g_i32 a) (kt : ¬ a = 0 → g_RF w l M d mc ms tgt ls st G Q) (kf : a = 0 → g_RF w l M d mc ms (pc + 3) ls st G Q) : g_RF w l M d mc ms pc ls (.int (iI a) :: st) G Q := by
  have hb : g_i32 0 := by decide
  exact gr_ifne hd ht (fun q => kt (by simpa only [iI_0, gt_iff_lt, ge_iff_le, iI_eq ha hb, iI_eq hb ha, iI_lt ha hb, iI_lt hb ha, iI_le ha hb, iI_le hb ha] using q)) (fun q => kf (by simpa only [iI_0, gt_iff_lt, ge_iff_le, iI_eq ha hb, iI_eq hb ha, iI_lt ha hb, iI_lt hb ha, iI_le ha hb, iI_le hb ha] using q))
-- machine: x < y | ¬ x < y
theorem gi_icmplt {a b : Int} {off : Int} {tgt : Nat} (hd : decode M.2.1 pc = .ok (.if_icmp .lt off, 3)) (ht : (pc : Int) + off = (tgt : Int)) (ha : g_i32 a) (hb : g_i32 b) (kt : a < b → g_RF w l M d mc ms tgt ls st G Q) (kf : ¬ a < b → g_RF w l M d mc ms (pc + 3) ls st G Q) : g_RF w l M d mc ms pc ls (.int (iI b) :: .int (iI a) :: st) G Q := gr_icmplt hd ht (fun q => kt (by simpa only [gt_iff_lt, ge_iff_le, iI_eq ha hb, iI_eq hb ha, iI_lt ha hb, iI_lt hb ha, iI_le ha hb, iI_le hb ha] using q)) (fun q => kf (by simpa only [gt_iff_lt, ge_iff_le, iI_eq ha hb, iI_eq hb ha, iI_lt ha hb, iI_lt hb ha, iI_le ha hb, iI_le hb ha] using q))
theorem gi_iflt {a : Int} {off : Int} {tgt : Nat} (hd : decode M.2.1 pc = .ok (.ifCond .lt off, 3)) (ht : (pc : Int) + off = (tgt : Int)) (ha : g_i32 a) (kt : a < 0 → g_RF w l M d mc ms tgt ls st G Q) (kf : ¬ a < 0 → g_RF w l M d mc ms (pc + 3) ls st G Q) : g_RF w l M d mc ms pc ls (.int (iI a) :: st) G Q := by
  have hb : g_i32 0 := by decide
  exact gr_iflt hd ht (fun q => kt (by simpa only [iI_0, gt_iff_lt, ge_iff_le, iI_eq ha hb, iI_eq hb ha, iI_lt ha hb, iI_lt hb ha, iI_le ha hb, iI_le hb ha] using q)) (fun q => kf (by simpa only [iI_0, gt_iff_lt, ge_iff_le, iI_eq ha hb, iI_eq hb ha, iI_lt ha hb, iI_lt hb ha, iI_le ha hb, iI_le hb ha] using q))
-- machine: y ≤ x | ¬ y ≤ x
theorem gi_icmpge {a b : Int} {off : Int} {tgt : Nat} (hd : decode M.2.1 pc = .ok (.if_icmp .ge off, 3)) (ht : (pc : Int) + off = (tgt : Int)) (ha : g_i32 a) (hb : g_i32 b) (kt : b ≤ a → g_RF w l M d mc ms tgt ls st G Q) (kf : ¬ b ≤ a → g_RF w l M d mc ms (pc + 3) ls st G Q) : g_RF w l M d mc ms pc ls (.int (iI b) :: .int (iI a) :: st) G Q := gr_icmpge hd ht (fun q => kt (by simpa only [gt_iff_lt, ge_iff_le, iI_eq ha hb, iI_eq hb ha, iI_lt ha hb, iI_lt hb ha, iI_le ha hb, iI_le hb ha] using q)) (fun q => kf (by simpa only [gt_iff_lt, ge_iff_le, iI_eq ha hb, iI_eq hb ha, iI_lt ha hb, iI_lt hb ha, iI_le ha hb, iI_le hb ha] using q))
theorem gi_ifge {a : Int} {off : Int} {tgt : Nat} (hd : decode M.2.1 pc = .ok (.ifCond .ge off, 3)) (ht : (pc : Int) + off = (tgt : Int)) (ha : g_i32 a) (kt : 0 ≤ a → g_RF w l M d mc ms tgt ls st G Q) (kf : ¬ 0 ≤ a → g_RF w l M d mc ms (pc + 3) ls st G Q) : g_RF w l M d mc ms pc ls (.int (iI a) :: st) G Q := by
  have hb : g_i32 0 := by decide
  exact gr_ifge hd ht (fun q => kt (by simpa only [iI_0, gt_iff_lt, ge_iff_le, iI_eq ha hb, iI_eq hb ha, iI_lt ha hb, iI_lt hb ha, iI_le ha hb, iI_le hb ha] using q)) (fun q => kf (by simpa only [iI_0, gt_iff_lt, ge_iff_le, iI_eq ha hb, iI_eq hb ha, iI_lt ha hb, iI_lt hb ha, iI_le ha hb, iI_le hb ha] using q))
-- machine: y < x | ¬ y < x
theorem gi_icmpgt {a b : Int} {off : Int} {tgt : Nat} (hd : decode M.2.1 pc = .ok (.if_icmp .gt off, 3)) (ht : (pc : Int) + off = (tgt : Int)) (ha : g_i32 a) (hb : g_i32 b) (kt : b < a → g_RF w l M d mc ms tgt ls st G Q) (kf : ¬ b < a → g_RF w l M d mc ms (pc + 3) ls st G Q) : g_RF w l M d mc ms pc ls (.int (iI b) :: .int (iI a) :: st) G Q := gr_icmpgt hd ht (fun q => kt (by simpa only [gt_iff_lt, ge_iff_le, iI_eq ha hb, iI_eq hb ha, iI_lt ha hb, iI_lt hb ha, iI_le ha hb, iI_le hb ha] using q)) (fun q => kf (by simpa only [gt_iff_lt, ge_iff_le, iI_eq ha hb, iI_eq hb ha, iI_lt ha hb, iI_lt hb ha, iI_le ha hb, iI_le hb ha] using q))
theorem gi_ifgt {a : Int} {off : Int} {tgt : Nat} (hd : decode M.2.1 pc = .ok (.ifCond .gt off, 3)) (ht : (pc : Int) + off = (tgt : Int)) (ha : g_i32 a) (kt : 0 < a → g_RF w l M d mc ms tgt ls st G Q) (kf : ¬ 0 < a → g_RF w l M d mc ms (pc + 3) ls st G Q) : g_RF w l M d mc ms pc ls (.int (iI a) :: st) G Q := by
  have hb : g_i32 0 := by decide
  exact gr_ifgt hd ht (fun q => kt (by simpa only [iI_0, gt_iff_lt, ge_iff_le, iI_eq ha hb, iI_eq hb ha, iI_lt ha hb, iI_lt hb ha, iI_le ha hb, iI_le hb ha] using q)) (fun q => kf (by simpa only [iI_0, gt_iff_lt, ge_iff_le, iI_eq ha hb, iI_eq hb ha, iI_lt ha hb, iI_lt hb ha, iI_le ha hb, iI_le hb ha] using q))
-- machine: x ≤ y | ¬ x ≤ y
theorem gi_icmple {a b : Int} {off : Int} {tgt : Nat} (hd : decode M.2.1 pc = .ok (.if_icmp .le off, 3)) (ht : (pc : Int) + off = (tgt : Int)) (ha : g_i32 a) (hb : g_i32 b) (kt : a ≤ b → g_RF w l M d mc ms tgt ls st G Q) (kf : ¬ a ≤ b → g_RF w l M d mc ms (pc + 3) ls st G Q) : g_RF w l M d mc ms pc ls (.int (iI b) :: .int (iI a) :: st) G Q := gr_icmple hd ht (fun q => kt (by simpa only [gt_iff_lt, ge_iff_le, iI_eq ha hb, iI_eq hb ha, iI_lt ha hb, iI_lt hb ha, iI_le ha hb, iI_le hb ha] using q)) (fun q => kf (by simpa only [gt_iff_lt, ge_iff_le, iI_eq ha hb, iI_eq hb ha, iI_lt ha hb, iI_lt hb ha, iI_le ha hb, iI_le hb ha] using q))
theorem gi_ifle {a : Int} {off : Int} {tgt : Nat} (hd : decode M.2.1 pc = .ok (.ifCond .le off, 3)) (ht : (pc : Int) + off = (tgt : Int)) (ha : g_i32 a) (kt : a ≤ 0 → g_RF w l M d mc ms tgt ls st G Q) (kf : ¬ a ≤ 0 → g_RF w l M d mc ms (pc + 3) ls st G Q) : g_RF w l M d mc ms pc ls (.int (iI a) :: st) G Q := by
  have hb : g_i32 0 := by decide
  exact gr_ifle hd ht (fun q => kt (by simpa only [iI_0, gt_iff_lt, ge_iff_le, iI_eq ha hb, iI_eq hb ha, iI_lt ha hb, iI_lt hb ha, iI_le ha hb, iI_le hb ha] using q)) (fun q => kf (by simpa only [iI_0, gt_iff_lt, ge_iff_le, iI_eq ha hb, iI_eq hb ha, iI_lt ha hb, iI_lt hb ha, iI_le ha hb, iI_le hb ha] using q))
theorem gi_ifeqB {b : Bool} {off : Int} {tgt : Nat} (hd : decode M.2.1 pc = .ok (.ifCond .eq off, 3)) (ht : (pc : Int) + off = (tgt : Int)) (kt : b = false → g_RF w l M d mc ms tgt ls st G Q) (kf : b = true → g_RF w l M d mc ms (pc + 3) ls st G Q) : g_RF w l M d mc ms pc ls (.int (iI (g_bi b)) :: st) G Q :=
  gi_ifeq hd ht (g_bi_rg b) (fun q => kt (by cases b; rfl; exact absurd q (by decide))) (fun q => kf (by cases b; exact absurd rfl q; rfl))
theorem gi_ifneB {b : Bool} {off : Int} {tgt : Nat} (hd : decode M.2.1 pc = .ok (.ifCond .ne off, 3)) (ht : (pc : Int) + off = (tgt : Int)) (kt : b = true → g_RF w l M d mc ms tgt ls st G Q) (kf : b = false → g_RF w l M d mc ms (pc + 3) ls st G Q) : g_RF w l M d mc ms pc ls (.int (iI (g_bi b)) :: st) G Q :=
  gi_ifne hd ht (g_bi_rg b) (fun q => kt (by cases b; exact absurd rfl q; rfl)) (fun q => kf (by cases b; rfl; exact absurd q (by decide)))
theorem gi_iret {z : Int} (hd : decode M.2.1 pc = .ok (.ireturn, 1)) (hr : M.2.2.2.1 = some .int) (hq : Q (.inl (some (.int (iI z)))) G) : g_RF w l M d mc ms pc ls [.int (iI z)] G Q := gr_iret hd hr rfl hq
theorem gi_zret {b : Bool} (hd : decode M.2.1 pc = .ok (.ireturn, 1)) (hr : M.2.2.2.1 = some .boolean) (hq : Q (.inl (some (.int (iI (g_bi b))))) G) : g_RF w l M d mc ms pc ls [.int (iI (g_bi b))] G Q := gr_iret hd hr (by cases b <;> rfl) hq
theorem gi_zret0 (hd : decode M.2.1 pc = .ok (.ireturn, 1)) (hr : M.2.2.2.1 = some .boolean) (hq : Q (.inl (some (.int (iI (g_bi false))))) G) : g_RF w l M d mc ms pc ls [.int (iI 0)] G Q := gi_zret hd hr hq
theorem gi_zret1 (hd : decode M.2.1 pc = .ok (.ireturn, 1)) (hr : M.2.2.2.1 = some .boolean) (hq : Q (.inl (some (.int (iI (g_bi true))))) G) : g_RF w l M d mc ms pc ls [.int (iI 1)] G Q := gi_zret hd hr hq
end GI1
