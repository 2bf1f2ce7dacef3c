/-! THE COMPONENT's states: what an object at a holds, in the reference's numbers S. -/
set_option maxRecDepth 100000
def cS (P : mm_P) (a : Nat) (S : Nat → Nat) : Prop := gI P 516 a = n32 (S 0) ∧ gI P 517 a = n32 (S 1) ∧ (∀ c, c < 6 → gA P 514 a c = n32 (S (2 + c))) ∧ (∀ c, c < 6 → gA P 515 a c = n32 (S (8 + c))) ∧ (∀ p, p < 8 → gA P 512 a p = n32 (S (20 + p))) ∧ (∀ p, p < 8 → gA P 513 a p = -n32 1 ∨ ∃ c, c < 6 ∧ gA P 513 a p = n32 c) ∧ ∀ p c, p < 8 → c < 6 → ((S (14 + c)).testBit p = true ↔ gA P 513 a p = n32 c)
/-- the codes of states at a -/
def cw (a : Nat) (c b : Nat) : Prop := b = a ∧ 512 ≤ c ∧ c < 518
theorem cS.fr {P P' : mm_P} {a : Nat} {S : Nat → Nat} {W : Nat → Nat → Prop} (h : cS P a S) (hf : fr W P P') (hW : ∀ c, 512 ≤ c → c < 518 → ¬ W c a) : cS P' a S := by
  obtain ⟨a1, a2, a3, a4, a5, a6, a7⟩ := h
  refine ⟨(hf 516 a (hW _ (by decide) (by decide))).1.trans a1, (hf 517 a (hW _ (by decide) (by decide))).1.trans a2, fun c hc => ((hf 514 a (hW _ (by decide) (by decide))).2.2.2.1 c).trans (a3 c hc), fun c hc => ((hf 515 a (hW _ (by decide) (by decide))).2.2.2.1 c).trans (a4 c hc), fun c hc => ((hf 512 a (hW _ (by decide) (by decide))).2.2.2.1 c).trans (a5 c hc), fun p hp => ?_, fun p c hp hc => ?_⟩
  · rw [(hf 513 a (hW _ (by decide) (by decide))).2.2.2.1 p]
    exact a6 p hp
  · rw [(hf 513 a (hW _ (by decide) (by decide))).2.2.2.1 p]
    exact a7 p c hp hc
theorem c_isIn {x k : Nat} (hx : x < 2147483648) (hk : k < 32) : fX1_isIn (n32 x) (n32 k) = some (b2 (x.testBit k)) := by
  have := bt_le x k
  cases q : x.testBit k with
  | true => simp (disch := omega) only [fX1_isIn, n32_bit, bt, q, b2, gd_true, gd_pos, bd_some, lt_eq, on_some, on_none, if_pos, if_neg, ne_eq, n32_add, n32_mul, n32_in, n32_cl, n32_lt, n32_le, n32_inj, n32_m1_lt, n32_m1_le, n32_lt_m1, n32_le_m1, n32_eq_m1, n32_m1_eq, not_true_eq_false, not_false_eq_true, ite_true, ite_false, Nat.add_assoc, true_and, and_true, decide_true, decide_false, Bool.and_true, Bool.true_and, Bool.and_false, Bool.false_and, Bool.not_true, Bool.not_false, Bool.false_eq_true, Nat.lt_irrefl, Nat.not_lt_zero, l_0, l_1, l_2, l_3, l_4, l_5, l_6, l_7, l_8, l_9, l_10, l_11, l_12, l_13, l_14, l_15, l_16, l_17, l_18, l_19, l_20, l_21, l_22, l_23, l_24, l_25, l_26, l_27, l_28, l_29, l_30, l_31, l_32, l_38, l_40, l_41, l_42, l_43, l_45, l_48, l_54, l_56, l_57, l_59, l_60, l_61, l_63, l_68, l_76, l_96, l_97, l_99, l_100, l_101, l_102, l_103, l_104, l_105, l_106, l_108, l_122, l_124, l_126, l_132, l_255, l_1000, l_1100, l_1134, l_1135, l_1148, l_1154, l_1188, l_1202, l_9999]
  | false => simp (disch := omega) only [fX1_isIn, n32_bit, bt, q, b2, gd_true, gd_pos, bd_some, lt_eq, on_some, on_none, if_pos, if_neg, ne_eq, n32_add, n32_mul, n32_in, n32_cl, n32_lt, n32_le, n32_inj, n32_m1_lt, n32_m1_le, n32_lt_m1, n32_le_m1, n32_eq_m1, n32_m1_eq, not_true_eq_false, not_false_eq_true, ite_true, ite_false, Nat.add_assoc, true_and, and_true, decide_true, decide_false, Bool.and_true, Bool.true_and, Bool.and_false, Bool.false_and, Bool.not_true, Bool.not_false, Bool.false_eq_true, Nat.lt_irrefl, Nat.not_lt_zero, l_0, l_1, l_2, l_3, l_4, l_5, l_6, l_7, l_8, l_9, l_10, l_11, l_12, l_13, l_14, l_15, l_16, l_17, l_18, l_19, l_20, l_21, l_22, l_23, l_24, l_25, l_26, l_27, l_28, l_29, l_30, l_31, l_32, l_38, l_40, l_41, l_42, l_43, l_45, l_48, l_54, l_56, l_57, l_59, l_60, l_61, l_63, l_68, l_76, l_96, l_97, l_99, l_100, l_101, l_102, l_103, l_104, l_105, l_106, l_108, l_122, l_124, l_126, l_132, l_255, l_1000, l_1100, l_1134, l_1135, l_1148, l_1154, l_1188, l_1202, l_9999]
theorem c_in {x a b : Int32} : fX1_in x a b = some (if x < a ∨ b < x then n32 0 else n32 1) := t_within
theorem c_by {P : mm_P} {a c : Nat} {S : Nat → Nat} (h : cS P a S) (hc : c < 6) (hx : S (14 + c) < 256) : fX4_by a P (n32 c) = some (n32 (S (14 + c))) := by
  obtain ⟨a1, a2, a3, a4, a5, a6, a7⟩ := h
  have e : n32 (S (14 + c)) = n32 (qk (fun p => (S (14 + c)).testBit p) 8) := by rw [qk_self hx]
  rw [e]
  refine eq_loop0 (L := fun n k s => fX4_by_b4 a P n (n32 c) s (n32 k)) (g := fun k => n32 (qk (fun p => (S (14 + c)).testBit p) k)) 8 (by decide) rfl ?_ ?_
  · intro n k hk
    have h1 := qk_lt (fun p => (S (14 + c)).testBit p) k
    have h2 : 2 ^ k ≤ 2 ^ 8 := Nat.pow_le_pow_right (by decide) (by omega)
    have h7 := a7 k c hk hc
    cases q : (S (14 + c)).testBit k with
    | true =>
      have h8 := h7.mp q
      simp (disch := omega) only [fX4_by_b4, h8, qk, q, n32_or, n32_shl, qk_or, gd_true, gd_pos, bd_some, lt_eq, on_some, on_none, if_pos, if_neg, ne_eq, n32_add, n32_mul, n32_in, n32_cl, n32_lt, n32_le, n32_inj, n32_m1_lt, n32_m1_le, n32_lt_m1, n32_le_m1, n32_eq_m1, n32_m1_eq, not_true_eq_false, not_false_eq_true, ite_true, ite_false, Nat.add_assoc, true_and, and_true, decide_true, decide_false, Bool.and_true, Bool.true_and, Bool.and_false, Bool.false_and, Bool.not_true, Bool.not_false, Bool.false_eq_true, Nat.lt_irrefl, Nat.not_lt_zero, l_0, l_1, l_2, l_3, l_4, l_5, l_6, l_7, l_8, l_9, l_10, l_11, l_12, l_13, l_14, l_15, l_16, l_17, l_18, l_19, l_20, l_21, l_22, l_23, l_24, l_25, l_26, l_27, l_28, l_29, l_30, l_31, l_32, l_38, l_40, l_41, l_42, l_43, l_45, l_48, l_54, l_56, l_57, l_59, l_60, l_61, l_63, l_68, l_76, l_96, l_97, l_99, l_100, l_101, l_102, l_103, l_104, l_105, l_106, l_108, l_122, l_124, l_126, l_132, l_255, l_1000, l_1100, l_1134, l_1135, l_1148, l_1154, l_1188, l_1202, l_9999]
    | false =>
      have h8 : ¬ gA P 513 a k = n32 c := fun z => by rw [h7.mpr z] at q; cases q
      simp (disch := omega) only [fX4_by_b4, h8, qk, q, Nat.add_zero, gd_true, gd_pos, bd_some, lt_eq, on_some, on_none, if_pos, if_neg, ne_eq, n32_add, n32_mul, n32_in, n32_cl, n32_lt, n32_le, n32_inj, n32_m1_lt, n32_m1_le, n32_lt_m1, n32_le_m1, n32_eq_m1, n32_m1_eq, not_true_eq_false, not_false_eq_true, ite_true, ite_false, Nat.add_assoc, true_and, and_true, decide_true, decide_false, Bool.and_true, Bool.true_and, Bool.and_false, Bool.false_and, Bool.not_true, Bool.not_false, Bool.false_eq_true, Nat.lt_irrefl, Nat.not_lt_zero, l_0, l_1, l_2, l_3, l_4, l_5, l_6, l_7, l_8, l_9, l_10, l_11, l_12, l_13, l_14, l_15, l_16, l_17, l_18, l_19, l_20, l_21, l_22, l_23, l_24, l_25, l_26, l_27, l_28, l_29, l_30, l_31, l_32, l_38, l_40, l_41, l_42, l_43, l_45, l_48, l_54, l_56, l_57, l_59, l_60, l_61, l_63, l_68, l_76, l_96, l_97, l_99, l_100, l_101, l_102, l_103, l_104, l_105, l_106, l_108, l_122, l_124, l_126, l_132, l_255, l_1000, l_1100, l_1134, l_1135, l_1148, l_1154, l_1188, l_1202, l_9999]
  · intro n
    simp (disch := omega) only [fX4_by_b4, gd_true, gd_pos, bd_some, lt_eq, on_some, on_none, if_pos, if_neg, ne_eq, n32_add, n32_mul, n32_in, n32_cl, n32_lt, n32_le, n32_inj, n32_m1_lt, n32_m1_le, n32_lt_m1, n32_le_m1, n32_eq_m1, n32_m1_eq, not_true_eq_false, not_false_eq_true, ite_true, ite_false, Nat.add_assoc, true_and, and_true, decide_true, decide_false, Bool.and_true, Bool.true_and, Bool.and_false, Bool.false_and, Bool.not_true, Bool.not_false, Bool.false_eq_true, Nat.lt_irrefl, Nat.not_lt_zero, l_0, l_1, l_2, l_3, l_4, l_5, l_6, l_7, l_8, l_9, l_10, l_11, l_12, l_13, l_14, l_15, l_16, l_17, l_18, l_19, l_20, l_21, l_22, l_23, l_24, l_25, l_26, l_27, l_28, l_29, l_30, l_31, l_32, l_38, l_40, l_41, l_42, l_43, l_45, l_48, l_54, l_56, l_57, l_59, l_60, l_61, l_63, l_68, l_76, l_96, l_97, l_99, l_100, l_101, l_102, l_103, l_104, l_105, l_106, l_108, l_122, l_124, l_126, l_132, l_255, l_1000, l_1100, l_1134, l_1135, l_1148, l_1154, l_1188, l_1202, l_9999]
theorem c_grips {P : mm_P} {a x : Nat} {S : Nat → Nat} (h : cS P a S) (hb : ∀ p, p < 8 → S (20 + p) ≤ 1000) (hx : x < 256) : fX4_grips a P (n32 x) = some (n32 (p_grips S x)) := by
  obtain ⟨a1, a2, a3, a4, a5, a6, a7⟩ := h
  refine eq_loop0 (L := fun n k s => fX4_grips_b4 a P n (n32 x) s (n32 k)) (g := fun k => n32 (sm (fun p => if x.testBit p then S (20 + p) else 0) k)) 8 (by decide) rfl ?_ ?_
  · intro n k hk
    cases q : x.testBit k with
    | true => simp (disch := omega) only [fX4_grips_b4, c_isIn, b2, q, a5, sm, gd_true, gd_pos, bd_some, lt_eq, on_some, on_none, if_pos, if_neg, ne_eq, n32_add, n32_mul, n32_in, n32_cl, n32_lt, n32_le, n32_inj, n32_m1_lt, n32_m1_le, n32_lt_m1, n32_le_m1, n32_eq_m1, n32_m1_eq, not_true_eq_false, not_false_eq_true, ite_true, ite_false, Nat.add_assoc, true_and, and_true, decide_true, decide_false, Bool.and_true, Bool.true_and, Bool.and_false, Bool.false_and, Bool.not_true, Bool.not_false, Bool.false_eq_true, Nat.lt_irrefl, Nat.not_lt_zero, l_0, l_1, l_2, l_3, l_4, l_5, l_6, l_7, l_8, l_9, l_10, l_11, l_12, l_13, l_14, l_15, l_16, l_17, l_18, l_19, l_20, l_21, l_22, l_23, l_24, l_25, l_26, l_27, l_28, l_29, l_30, l_31, l_32, l_38, l_40, l_41, l_42, l_43, l_45, l_48, l_54, l_56, l_57, l_59, l_60, l_61, l_63, l_68, l_76, l_96, l_97, l_99, l_100, l_101, l_102, l_103, l_104, l_105, l_106, l_108, l_122, l_124, l_126, l_132, l_255, l_1000, l_1100, l_1134, l_1135, l_1148, l_1154, l_1188, l_1202, l_9999]
    | false => simp (disch := omega) only [fX4_grips_b4, c_isIn, b2, q, sm, Nat.add_zero, gd_true, gd_pos, bd_some, lt_eq, on_some, on_none, if_pos, if_neg, ne_eq, n32_add, n32_mul, n32_in, n32_cl, n32_lt, n32_le, n32_inj, n32_m1_lt, n32_m1_le, n32_lt_m1, n32_le_m1, n32_eq_m1, n32_m1_eq, not_true_eq_false, not_false_eq_true, ite_true, ite_false, Nat.add_assoc, true_and, and_true, decide_true, decide_false, Bool.and_true, Bool.true_and, Bool.and_false, Bool.false_and, Bool.not_true, Bool.not_false, Bool.false_eq_true, Nat.lt_irrefl, Nat.not_lt_zero, l_0, l_1, l_2, l_3, l_4, l_5, l_6, l_7, l_8, l_9, l_10, l_11, l_12, l_13, l_14, l_15, l_16, l_17, l_18, l_19, l_20, l_21, l_22, l_23, l_24, l_25, l_26, l_27, l_28, l_29, l_30, l_31, l_32, l_38, l_40, l_41, l_42, l_43, l_45, l_48, l_54, l_56, l_57, l_59, l_60, l_61, l_63, l_68, l_76, l_96, l_97, l_99, l_100, l_101, l_102, l_103, l_104, l_105, l_106, l_108, l_122, l_124, l_126, l_132, l_255, l_1000, l_1100, l_1134, l_1135, l_1148, l_1154, l_1188, l_1202, l_9999]
  · intro n
    simp (disch := omega) only [fX4_grips_b4, p_grips, gd_true, gd_pos, bd_some, lt_eq, on_some, on_none, if_pos, if_neg, ne_eq, n32_add, n32_mul, n32_in, n32_cl, n32_lt, n32_le, n32_inj, n32_m1_lt, n32_m1_le, n32_lt_m1, n32_le_m1, n32_eq_m1, n32_m1_eq, not_true_eq_false, not_false_eq_true, ite_true, ite_false, Nat.add_assoc, true_and, and_true, decide_true, decide_false, Bool.and_true, Bool.true_and, Bool.and_false, Bool.false_and, Bool.not_true, Bool.not_false, Bool.false_eq_true, Nat.lt_irrefl, Nat.not_lt_zero, l_0, l_1, l_2, l_3, l_4, l_5, l_6, l_7, l_8, l_9, l_10, l_11, l_12, l_13, l_14, l_15, l_16, l_17, l_18, l_19, l_20, l_21, l_22, l_23, l_24, l_25, l_26, l_27, l_28, l_29, l_30, l_31, l_32, l_38, l_40, l_41, l_42, l_43, l_45, l_48, l_54, l_56, l_57, l_59, l_60, l_61, l_63, l_68, l_76, l_96, l_97, l_99, l_100, l_101, l_102, l_103, l_104, l_105, l_106, l_108, l_122, l_124, l_126, l_132, l_255, l_1000, l_1100, l_1134, l_1135, l_1148, l_1154, l_1188, l_1202, l_9999]
/-- a peg is free, or some cloth's -/
theorem cS_hold {P : mm_P} {a p n : Nat} {S : Nat → Nat} (h : cS P a S) (hp : p < 8) (hn : n ≤ 6) (hz : ∀ c, n ≤ c → c < 6 → S (14 + c) = 0) : (p_isBy S p n = false ∧ gA P 513 a p = -n32 1) ∨ (p_isBy S p n = true ∧ ∃ c, c < n ∧ gA P 513 a p = n32 c) := by
  obtain ⟨a1, a2, a3, a4, a5, a6, a7⟩ := h
  rcases a6 p hp with e | ⟨c, hc, e⟩
  · left
    refine ⟨decide_eq_false ?_, e⟩
    rintro ⟨c, hc, hb⟩
    have := (a7 p c hp (by omega)).mp hb
    rw [e] at this
    exact (n32_m1_eq (by omega)).mp this
  · right
    have hb := (a7 p c hp hc).mpr e
    have hcn : c < n := by
      rcases Nat.lt_or_ge c n with q | q
      · exact q
      · rw [hz c q hc] at hb
        simp at hb
    exact ⟨decide_eq_true ⟨c, hcn, hb⟩, c, hcn, e⟩
theorem c_free {P : mm_P} {a : Nat} {R S : Nat → Nat} {h : Nat} (hS : cS P a S) (ok : okS R h S) (h6 : R 0 ≤ 6) : fX4_free a P = some (n32 (p_free R S)) := by
  obtain ⟨-, o2, -, o4, o5⟩ := ok
  have hh := hS
  obtain ⟨a1, a2, a3, a4, a5, a6, a7⟩ := hS
  refine eq_loop0 (L := fun n k s => fX4_free_b4 a P n s (n32 k)) (g := fun k => n32 (qk (fun p => decide (0 < S (20 + p)) && !p_isBy S p (R 0)) k)) (S 1) (by omega) rfl ?_ ?_
  · intro n k hk
    have h1 := qk_lt (fun p => decide (0 < S (20 + p)) && !p_isBy S p (R 0)) k
    have h2 : 2 ^ k ≤ 2 ^ 8 := Nat.pow_le_pow_right (by decide) (by omega)
    have hg := o4 k (by omega)
    rcases cS_hold (n := R 0) hh (show k < 8 by omega) h6 o5 with ⟨b1, b2⟩ | ⟨b1, c, hc, b2⟩
    · by_cases q : 0 < S (20 + k)
      · simp (disch := omega) only [fX4_free_b4, a2, b1, b2, a5, q, qk, n32_or, n32_shl, qk_or, gd_true, gd_pos, bd_some, lt_eq, on_some, on_none, if_pos, if_neg, ne_eq, n32_add, n32_mul, n32_in, n32_cl, n32_lt, n32_le, n32_inj, n32_m1_lt, n32_m1_le, n32_lt_m1, n32_le_m1, n32_eq_m1, n32_m1_eq, not_true_eq_false, not_false_eq_true, ite_true, ite_false, Nat.add_assoc, true_and, and_true, decide_true, decide_false, Bool.and_true, Bool.true_and, Bool.and_false, Bool.false_and, Bool.not_true, Bool.not_false, Bool.false_eq_true, Nat.lt_irrefl, Nat.not_lt_zero, l_0, l_1, l_2, l_3, l_4, l_5, l_6, l_7, l_8, l_9, l_10, l_11, l_12, l_13, l_14, l_15, l_16, l_17, l_18, l_19, l_20, l_21, l_22, l_23, l_24, l_25, l_26, l_27, l_28, l_29, l_30, l_31, l_32, l_38, l_40, l_41, l_42, l_43, l_45, l_48, l_54, l_56, l_57, l_59, l_60, l_61, l_63, l_68, l_76, l_96, l_97, l_99, l_100, l_101, l_102, l_103, l_104, l_105, l_106, l_108, l_122, l_124, l_126, l_132, l_255, l_1000, l_1100, l_1134, l_1135, l_1148, l_1154, l_1188, l_1202, l_9999]
      · have q2 : S (20 + k) = 0 := by omega
        simp (disch := omega) only [fX4_free_b4, a2, b1, b2, a5, q2, qk, Nat.add_zero, gd_true, gd_pos, bd_some, lt_eq, on_some, on_none, if_pos, if_neg, ne_eq, n32_add, n32_mul, n32_in, n32_cl, n32_lt, n32_le, n32_inj, n32_m1_lt, n32_m1_le, n32_lt_m1, n32_le_m1, n32_eq_m1, n32_m1_eq, not_true_eq_false, not_false_eq_true, ite_true, ite_false, Nat.add_assoc, true_and, and_true, decide_true, decide_false, Bool.and_true, Bool.true_and, Bool.and_false, Bool.false_and, Bool.not_true, Bool.not_false, Bool.false_eq_true, Nat.lt_irrefl, Nat.not_lt_zero, l_0, l_1, l_2, l_3, l_4, l_5, l_6, l_7, l_8, l_9, l_10, l_11, l_12, l_13, l_14, l_15, l_16, l_17, l_18, l_19, l_20, l_21, l_22, l_23, l_24, l_25, l_26, l_27, l_28, l_29, l_30, l_31, l_32, l_38, l_40, l_41, l_42, l_43, l_45, l_48, l_54, l_56, l_57, l_59, l_60, l_61, l_63, l_68, l_76, l_96, l_97, l_99, l_100, l_101, l_102, l_103, l_104, l_105, l_106, l_108, l_122, l_124, l_126, l_132, l_255, l_1000, l_1100, l_1134, l_1135, l_1148, l_1154, l_1188, l_1202, l_9999]
    · simp (disch := omega) only [fX4_free_b4, a2, b1, b2, a5, qk, Nat.add_zero, gd_true, gd_pos, bd_some, lt_eq, on_some, on_none, if_pos, if_neg, ne_eq, n32_add, n32_mul, n32_in, n32_cl, n32_lt, n32_le, n32_inj, n32_m1_lt, n32_m1_le, n32_lt_m1, n32_le_m1, n32_eq_m1, n32_m1_eq, not_true_eq_false, not_false_eq_true, ite_true, ite_false, Nat.add_assoc, true_and, and_true, decide_true, decide_false, Bool.and_true, Bool.true_and, Bool.and_false, Bool.false_and, Bool.not_true, Bool.not_false, Bool.false_eq_true, Nat.lt_irrefl, Nat.not_lt_zero, l_0, l_1, l_2, l_3, l_4, l_5, l_6, l_7, l_8, l_9, l_10, l_11, l_12, l_13, l_14, l_15, l_16, l_17, l_18, l_19, l_20, l_21, l_22, l_23, l_24, l_25, l_26, l_27, l_28, l_29, l_30, l_31, l_32, l_38, l_40, l_41, l_42, l_43, l_45, l_48, l_54, l_56, l_57, l_59, l_60, l_61, l_63, l_68, l_76, l_96, l_97, l_99, l_100, l_101, l_102, l_103, l_104, l_105, l_106, l_108, l_122, l_124, l_126, l_132, l_255, l_1000, l_1100, l_1134, l_1135, l_1148, l_1154, l_1188, l_1202, l_9999]
  · intro n
    simp (disch := omega) only [fX4_free_b4, a2, p_free, gd_true, gd_pos, bd_some, lt_eq, on_some, on_none, if_pos, if_neg, ne_eq, n32_add, n32_mul, n32_in, n32_cl, n32_lt, n32_le, n32_inj, n32_m1_lt, n32_m1_le, n32_lt_m1, n32_le_m1, n32_eq_m1, n32_m1_eq, not_true_eq_false, not_false_eq_true, ite_true, ite_false, Nat.add_assoc, true_and, and_true, decide_true, decide_false, Bool.and_true, Bool.true_and, Bool.and_false, Bool.false_and, Bool.not_true, Bool.not_false, Bool.false_eq_true, Nat.lt_irrefl, Nat.not_lt_zero, l_0, l_1, l_2, l_3, l_4, l_5, l_6, l_7, l_8, l_9, l_10, l_11, l_12, l_13, l_14, l_15, l_16, l_17, l_18, l_19, l_20, l_21, l_22, l_23, l_24, l_25, l_26, l_27, l_28, l_29, l_30, l_31, l_32, l_38, l_40, l_41, l_42, l_43, l_45, l_48, l_54, l_56, l_57, l_59, l_60, l_61, l_63, l_68, l_76, l_96, l_97, l_99, l_100, l_101, l_102, l_103, l_104, l_105, l_106, l_108, l_122, l_124, l_126, l_132, l_255, l_1000, l_1100, l_1134, l_1135, l_1148, l_1154, l_1188, l_1202, l_9999]
theorem up_up {S : Nat → Nat} {i v w : Nat} : up (up S i v) i w = up S i w := by
  funext j
  by_cases e : j = i
  · rw [up_eq e, up_eq e]
  · rw [up_ne e, up_ne e, up_ne e]
/-- pegs of x, all free, take the cloth c that hung by none -/
theorem c_hangs {P : mm_P} {a c x : Nat} {S : Nat → Nat} (h : cS P a S) (hc : c < 6) (h0 : S (14 + c) = 0) (hx : x < 256) (hfree : ∀ p, p < 8 → x.testBit p = true → gA P 513 a p = -n32 1) : wp (fX4_hangs a (n32 c) (n32 x) P) (fun P' => cS P' a (up S (14 + c) x) ∧ fr (cw a) P P') := by
  obtain ⟨a1, a2, a3, a4, a5, a6, a7⟩ := h
  refine wp_loop0 (L := fun n k s => fX4_hangs_b2 a n (n32 c) (n32 x) (n32 k) s) (fun k P' => (∀ p, gA P' 513 a p = if p < k ∧ x.testBit p = true then n32 c else gA P 513 a p) ∧ fr (fun r b => r = 513 ∧ b = a) P P') 8 (by decide) ⟨fun p => by rw [if_neg (by omega)], fr_refl _ _⟩ ?_ ?_
  · intro n k P1 hk ⟨h1, hf⟩ ih
    cases q : x.testBit k with
    | true =>
      simp (disch := omega) only [fX4_hangs_b2, c_isIn, b2, q, gd_true, gd_pos, bd_some, lt_eq, on_some, on_none, if_pos, if_neg, ne_eq, n32_add, n32_mul, n32_in, n32_cl, n32_lt, n32_le, n32_inj, n32_m1_lt, n32_m1_le, n32_lt_m1, n32_le_m1, n32_eq_m1, n32_m1_eq, not_true_eq_false, not_false_eq_true, ite_true, ite_false, Nat.add_assoc, true_and, and_true, decide_true, decide_false, Bool.and_true, Bool.true_and, Bool.and_false, Bool.false_and, Bool.not_true, Bool.not_false, Bool.false_eq_true, Nat.lt_irrefl, Nat.not_lt_zero, l_0, l_1, l_2, l_3, l_4, l_5, l_6, l_7, l_8, l_9, l_10, l_11, l_12, l_13, l_14, l_15, l_16, l_17, l_18, l_19, l_20, l_21, l_22, l_23, l_24, l_25, l_26, l_27, l_28, l_29, l_30, l_31, l_32, l_38, l_40, l_41, l_42, l_43, l_45, l_48, l_54, l_56, l_57, l_59, l_60, l_61, l_63, l_68, l_76, l_96, l_97, l_99, l_100, l_101, l_102, l_103, l_104, l_105, l_106, l_108, l_122, l_124, l_126, l_132, l_255, l_1000, l_1100, l_1134, l_1135, l_1148, l_1154, l_1188, l_1202, l_9999]
      refine ih _ ⟨fun p => ?_, fr_sA hf ⟨rfl, rfl⟩⟩
      by_cases e : p = k
      · subst e
        rw [gA_sA_eq ⟨rfl, rfl, rfl⟩, if_pos ⟨by omega, q⟩]
      · rw [gA_sA_ne (by omega), h1 p]
        by_cases z : p < k ∧ x.testBit p = true
        · rw [if_pos z, if_pos ⟨by omega, z.2⟩]
        · rw [if_neg z, if_neg (fun y => z ⟨by omega, y.2⟩)]
    | false =>
      simp (disch := omega) only [fX4_hangs_b2, c_isIn, b2, q, gd_true, gd_pos, bd_some, lt_eq, on_some, on_none, if_pos, if_neg, ne_eq, n32_add, n32_mul, n32_in, n32_cl, n32_lt, n32_le, n32_inj, n32_m1_lt, n32_m1_le, n32_lt_m1, n32_le_m1, n32_eq_m1, n32_m1_eq, not_true_eq_false, not_false_eq_true, ite_true, ite_false, Nat.add_assoc, true_and, and_true, decide_true, decide_false, Bool.and_true, Bool.true_and, Bool.and_false, Bool.false_and, Bool.not_true, Bool.not_false, Bool.false_eq_true, Nat.lt_irrefl, Nat.not_lt_zero, l_0, l_1, l_2, l_3, l_4, l_5, l_6, l_7, l_8, l_9, l_10, l_11, l_12, l_13, l_14, l_15, l_16, l_17, l_18, l_19, l_20, l_21, l_22, l_23, l_24, l_25, l_26, l_27, l_28, l_29, l_30, l_31, l_32, l_38, l_40, l_41, l_42, l_43, l_45, l_48, l_54, l_56, l_57, l_59, l_60, l_61, l_63, l_68, l_76, l_96, l_97, l_99, l_100, l_101, l_102, l_103, l_104, l_105, l_106, l_108, l_122, l_124, l_126, l_132, l_255, l_1000, l_1100, l_1134, l_1135, l_1148, l_1154, l_1188, l_1202, l_9999]
      refine ih _ ⟨fun p => ?_, hf⟩
      rw [h1 p]
      by_cases z : p < k ∧ x.testBit p = true
      · rw [if_pos z, if_pos ⟨by omega, z.2⟩]
      · rw [if_neg z, if_neg (fun y => z ⟨by
          by_cases e : p = k
          · subst e; rw [q] at y; exact absurd y.2 (by decide)
          · omega, y.2⟩)]
  · intro n P1 ⟨h1, hf⟩
    simp (disch := omega) only [fX4_hangs_b2, wp_some, gd_true, gd_pos, bd_some, lt_eq, on_some, on_none, if_pos, if_neg, ne_eq, n32_add, n32_mul, n32_in, n32_cl, n32_lt, n32_le, n32_inj, n32_m1_lt, n32_m1_le, n32_lt_m1, n32_le_m1, n32_eq_m1, n32_m1_eq, not_true_eq_false, not_false_eq_true, ite_true, ite_false, Nat.add_assoc, true_and, and_true, decide_true, decide_false, Bool.and_true, Bool.true_and, Bool.and_false, Bool.false_and, Bool.not_true, Bool.not_false, Bool.false_eq_true, Nat.lt_irrefl, Nat.not_lt_zero, l_0, l_1, l_2, l_3, l_4, l_5, l_6, l_7, l_8, l_9, l_10, l_11, l_12, l_13, l_14, l_15, l_16, l_17, l_18, l_19, l_20, l_21, l_22, l_23, l_24, l_25, l_26, l_27, l_28, l_29, l_30, l_31, l_32, l_38, l_40, l_41, l_42, l_43, l_45, l_48, l_54, l_56, l_57, l_59, l_60, l_61, l_63, l_68, l_76, l_96, l_97, l_99, l_100, l_101, l_102, l_103, l_104, l_105, l_106, l_108, l_122, l_124, l_126, l_132, l_255, l_1000, l_1100, l_1134, l_1135, l_1148, l_1154, l_1188, l_1202, l_9999]
    have hg := fun r (hr : r ≠ 513) => hf r a (fun z => hr z.1)
    refine ⟨⟨(hg 516 (by decide)).1.trans (by rw [up_ne (by omega)]; exact a1), (hg 517 (by decide)).1.trans (by rw [up_ne (by omega)]; exact a2), fun d hd => ((hg 514 (by decide)).2.2.2.1 d).trans (by rw [up_ne (by omega)]; exact a3 d hd), fun d hd => ((hg 515 (by decide)).2.2.2.1 d).trans (by rw [up_ne (by omega)]; exact a4 d hd), fun d hd => ((hg 512 (by decide)).2.2.2.1 d).trans (by rw [up_ne (by omega)]; exact a5 d hd), fun p hp => ?_, fun p d hp hd => ?_⟩, hf.mono (fun r b z => ⟨z.2, by omega, by omega⟩)⟩
    · rw [h1 p]
      by_cases z : p < 8 ∧ x.testBit p = true
      · rw [if_pos z]
        exact Or.inr ⟨c, hc, rfl⟩
      · rw [if_neg z]
        exact a6 p hp
    · rw [h1 p]
      by_cases z : x.testBit p = true
      · rw [if_pos ⟨hp, z⟩]
        by_cases e : d = c
        · subst e
          rw [up_eq rfl]
          exact ⟨fun _ => rfl, fun _ => z⟩
        · rw [up_ne (by omega)]
          constructor
          · intro y
            have := (a7 p d hp hd).mp y
            rw [hfree p hp z] at this
            exact absurd this (fun w => (n32_m1_eq (by omega)).mp w)
          · intro y
            exact absurd ((n32_inj (by omega) (by omega)).mp y) (fun w => e w.symm)
      · rw [if_neg (fun y => z y.2)]
        by_cases e : d = c
        · subst e
          rw [up_eq rfl]
          constructor
          · exact fun y => absurd y z
          · intro y
            have := (a7 p d hp hd).mpr y
            rw [h0] at this
            simp at this
        · rw [up_ne (by omega)]
          exact a7 p d hp hd
/-- a cloth comes in -/
theorem c_comesIn {P : mm_P} {a c : Nat} {S : Nat → Nat} (h : cS P a S) (hc : c < 6) : wp (fX4_comesIn a (n32 c) P) (fun P' => cS P' a (up S (14 + c) 0) ∧ fr (cw a) P P') := by
  obtain ⟨a1, a2, a3, a4, a5, a6, a7⟩ := h
  refine wp_loop0 (L := fun n k s => fX4_comesIn_b2 a n (n32 c) (n32 k) s) (fun k P' => (∀ p, gA P' 513 a p = if p < k ∧ gA P 513 a p = n32 c then -n32 1 else gA P 513 a p) ∧ fr (fun r b => r = 513 ∧ b = a) P P') 8 (by decide) ⟨fun p => by rw [if_neg (by omega)], fr_refl _ _⟩ ?_ ?_
  · intro n k P1 hk ⟨h1, hf⟩ ih
    have h1k := h1 k
    rw [if_neg (by omega)] at h1k
    by_cases q : gA P 513 a k = n32 c
    · simp (disch := omega) only [fX4_comesIn_b2, h1k, q, gd_true, gd_pos, bd_some, lt_eq, on_some, on_none, if_pos, if_neg, ne_eq, n32_add, n32_mul, n32_in, n32_cl, n32_lt, n32_le, n32_inj, n32_m1_lt, n32_m1_le, n32_lt_m1, n32_le_m1, n32_eq_m1, n32_m1_eq, not_true_eq_false, not_false_eq_true, ite_true, ite_false, Nat.add_assoc, true_and, and_true, decide_true, decide_false, Bool.and_true, Bool.true_and, Bool.and_false, Bool.false_and, Bool.not_true, Bool.not_false, Bool.false_eq_true, Nat.lt_irrefl, Nat.not_lt_zero, l_0, l_1, l_2, l_3, l_4, l_5, l_6, l_7, l_8, l_9, l_10, l_11, l_12, l_13, l_14, l_15, l_16, l_17, l_18, l_19, l_20, l_21, l_22, l_23, l_24, l_25, l_26, l_27, l_28, l_29, l_30, l_31, l_32, l_38, l_40, l_41, l_42, l_43, l_45, l_48, l_54, l_56, l_57, l_59, l_60, l_61, l_63, l_68, l_76, l_96, l_97, l_99, l_100, l_101, l_102, l_103, l_104, l_105, l_106, l_108, l_122, l_124, l_126, l_132, l_255, l_1000, l_1100, l_1134, l_1135, l_1148, l_1154, l_1188, l_1202, l_9999]
      refine ih _ ⟨fun p => ?_, fr_sA hf ⟨rfl, rfl⟩⟩
      by_cases e : p = k
      · subst e
        rw [gA_sA_eq ⟨rfl, rfl, rfl⟩, if_pos ⟨by omega, q⟩]
      · rw [gA_sA_ne (by omega), h1 p]
        by_cases z : p < k ∧ gA P 513 a p = n32 c
        · rw [if_pos z, if_pos ⟨by omega, z.2⟩]
        · rw [if_neg z, if_neg (fun y => z ⟨by omega, y.2⟩)]
    · simp (disch := omega) only [fX4_comesIn_b2, h1k, q, gd_true, gd_pos, bd_some, lt_eq, on_some, on_none, if_pos, if_neg, ne_eq, n32_add, n32_mul, n32_in, n32_cl, n32_lt, n32_le, n32_inj, n32_m1_lt, n32_m1_le, n32_lt_m1, n32_le_m1, n32_eq_m1, n32_m1_eq, not_true_eq_false, not_false_eq_true, ite_true, ite_false, Nat.add_assoc, true_and, and_true, decide_true, decide_false, Bool.and_true, Bool.true_and, Bool.and_false, Bool.false_and, Bool.not_true, Bool.not_false, Bool.false_eq_true, Nat.lt_irrefl, Nat.not_lt_zero, l_0, l_1, l_2, l_3, l_4, l_5, l_6, l_7, l_8, l_9, l_10, l_11, l_12, l_13, l_14, l_15, l_16, l_17, l_18, l_19, l_20, l_21, l_22, l_23, l_24, l_25, l_26, l_27, l_28, l_29, l_30, l_31, l_32, l_38, l_40, l_41, l_42, l_43, l_45, l_48, l_54, l_56, l_57, l_59, l_60, l_61, l_63, l_68, l_76, l_96, l_97, l_99, l_100, l_101, l_102, l_103, l_104, l_105, l_106, l_108, l_122, l_124, l_126, l_132, l_255, l_1000, l_1100, l_1134, l_1135, l_1148, l_1154, l_1188, l_1202, l_9999]
      refine ih _ ⟨fun p => ?_, hf⟩
      rw [h1 p]
      by_cases z : p < k ∧ gA P 513 a p = n32 c
      · rw [if_pos z, if_pos ⟨by omega, z.2⟩]
      · rw [if_neg z, if_neg (fun y => z ⟨by
          by_cases e : p = k
          · subst e; exact absurd y.2 q
          · omega, y.2⟩)]
  · intro n P1 ⟨h1, hf⟩
    simp (disch := omega) only [fX4_comesIn_b2, wp_some, gd_true, gd_pos, bd_some, lt_eq, on_some, on_none, if_pos, if_neg, ne_eq, n32_add, n32_mul, n32_in, n32_cl, n32_lt, n32_le, n32_inj, n32_m1_lt, n32_m1_le, n32_lt_m1, n32_le_m1, n32_eq_m1, n32_m1_eq, not_true_eq_false, not_false_eq_true, ite_true, ite_false, Nat.add_assoc, true_and, and_true, decide_true, decide_false, Bool.and_true, Bool.true_and, Bool.and_false, Bool.false_and, Bool.not_true, Bool.not_false, Bool.false_eq_true, Nat.lt_irrefl, Nat.not_lt_zero, l_0, l_1, l_2, l_3, l_4, l_5, l_6, l_7, l_8, l_9, l_10, l_11, l_12, l_13, l_14, l_15, l_16, l_17, l_18, l_19, l_20, l_21, l_22, l_23, l_24, l_25, l_26, l_27, l_28, l_29, l_30, l_31, l_32, l_38, l_40, l_41, l_42, l_43, l_45, l_48, l_54, l_56, l_57, l_59, l_60, l_61, l_63, l_68, l_76, l_96, l_97, l_99, l_100, l_101, l_102, l_103, l_104, l_105, l_106, l_108, l_122, l_124, l_126, l_132, l_255, l_1000, l_1100, l_1134, l_1135, l_1148, l_1154, l_1188, l_1202, l_9999]
    have hg := fun r (hr : r ≠ 513) => hf r a (fun z => hr z.1)
    refine ⟨⟨(hg 516 (by decide)).1.trans (by rw [up_ne (by omega)]; exact a1), (hg 517 (by decide)).1.trans (by rw [up_ne (by omega)]; exact a2), fun d hd => ((hg 514 (by decide)).2.2.2.1 d).trans (by rw [up_ne (by omega)]; exact a3 d hd), fun d hd => ((hg 515 (by decide)).2.2.2.1 d).trans (by rw [up_ne (by omega)]; exact a4 d hd), fun d hd => ((hg 512 (by decide)).2.2.2.1 d).trans (by rw [up_ne (by omega)]; exact a5 d hd), fun p hp => ?_, fun p d hp hd => ?_⟩, hf.mono (fun r b z => ⟨z.2, by omega, by omega⟩)⟩
    · rw [h1 p]
      by_cases z : p < 8 ∧ gA P 513 a p = n32 c
      · rw [if_pos z]
        exact Or.inl rfl
      · rw [if_neg z]
        exact a6 p hp
    · rw [h1 p]
      by_cases z : gA P 513 a p = n32 c
      · rw [if_pos ⟨hp, z⟩]
        by_cases e : d = c
        · subst e
          rw [up_eq rfl]
          constructor
          · exact fun y => absurd y (by simp)
          · exact fun y => absurd y (fun w => (n32_m1_eq (by omega)).mp w)
        · rw [up_ne (by omega)]
          constructor
          · intro y
            have := (a7 p d hp hd).mp y
            rw [z] at this
            exact absurd ((n32_inj (by omega) (by omega)).mp this) (fun w => e w.symm)
          · exact fun y => absurd y (fun w => (n32_m1_eq (by omega)).mp w)
      · rw [if_neg (fun y => z y.2)]
        by_cases e : d = c
        · subst e
          rw [up_eq rfl]
          constructor
          · exact fun y => absurd y (by simp)
          · exact fun y => absurd y z
        · rw [up_ne (by omega)]
          exact a7 p d hp hd
