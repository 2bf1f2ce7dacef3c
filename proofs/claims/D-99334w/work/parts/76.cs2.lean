/-! THE COMPONENT's states: pegs that wear, a fall, a copy, a beginning. -/
set_option maxRecDepth 100000
theorem max_m1 {g : Nat} (hg : g < 2147483648) : mm_max (n32 0) (n32 g - n32 1) = n32 (g - 1) := by
  by_cases h : 1 ≤ g
  · rw [n32_sub h, n32_max (by decide) (by omega)]
    congr 1
    try omega
  · have : g = 0 := by omega
    subst this
    rfl
theorem c_wears {P : mm_P} {a c : Nat} {S : Nat → Nat} (h : cS P a S) (hc : c < 6) (hg : ∀ p, p < 8 → S (20 + p) ≤ 1000) (hx : S (14 + c) < 256) : wp (fX4_wears a (n32 c) P) (fun P' => cS P' a (up (p_loose S (S (14 + c))) (14 + c) (p_kept (p_loose S (S (14 + c))) (S (14 + c)))) ∧ fr (cw a) P P') := by
  obtain ⟨a1, a2, a3, a4, a5, a6, a7⟩ := h
  refine wp_loop0 (L := fun n k s => fX4_wears_b2 a n (n32 c) (n32 k) s) (fun k P' => (∀ p, p < 8 → gA P' 512 a p = if p < k ∧ gA P 513 a p = n32 c then n32 (S (20 + p) - 1) else n32 (S (20 + p))) ∧ (∀ p, gA P' 513 a p = if p < k ∧ gA P 513 a p = n32 c ∧ S (20 + p) ≤ 1 then -n32 1 else gA P 513 a p) ∧ fr (fun r b => (r = 512 ∨ r = 513) ∧ b = a) P P') 8 (by decide) ⟨fun p hp => by rw [if_neg (by omega)]; exact a5 p hp, fun p => by rw [if_neg (by omega)], fr_refl _ _⟩ ?_ ?_
  · intro n k P1 hk ⟨h1, h2, hf⟩ ih
    have h1k := h1 k hk
    have h2k := h2 k
    rw [if_neg (by omega)] at h1k h2k
    have hgk := hg k hk
    by_cases q : gA P 513 a k = n32 c
    · -- the grip's part, common to both ways
      have w1 : ∀ v, v = n32 (S (20 + k) - 1) → ∀ p, p < 8 → gA (sA P1 512 a k v) 512 a p = if p < k + 1 ∧ gA P 513 a p = n32 c then n32 (S (20 + p) - 1) else n32 (S (20 + p)) := by
        intro v hv p hp
        by_cases e : p = k
        · subst e
          rw [gA_sA_eq ⟨rfl, rfl, rfl⟩, if_pos ⟨by omega, q⟩, hv]
        · rw [gA_sA_ne (by omega), h1 p hp]
          by_cases z : p < k ∧ gA P 513 a p = n32 c
          · rw [if_pos z, if_pos ⟨by omega, z.2⟩]
          · rw [if_neg z, if_neg (fun y => z ⟨by omega, y.2⟩)]
      by_cases q1 : S (20 + k) ≤ 1
      · have q2 : S (20 + k) - 1 = 0 := by omega
        have w1 := w1 (n32 0) (by rw [q2])
        simp (disch := omega) only [fX4_wears_b2, h1k, h2k, q, max_m1, q2, gA_sA_eq, gA_sA_ne, gI_sI_eq, gI_sI_ne, gA_sI, gI_sA, gR_sA, gR_sI, gL_sA, gL_sI, gB_sA, gB_sI, gJ_sA, gJ_sI, gd_true, gd_pos, bd_some, lt_eq, on_some, on_none, if_pos, if_neg, ne_eq, n32_add, n32_mul, n32_in, n32_cl, n32_lt, n32_le, n32_inj, n32_m1_lt, n32_m1_le, n32_lt_m1, n32_le_m1, n32_eq_m1, n32_m1_eq, not_true_eq_false, not_false_eq_true, ite_true, ite_false, Nat.add_assoc, true_and, and_true, decide_true, decide_false, Bool.and_true, Bool.true_and, Bool.and_false, Bool.false_and, Bool.not_true, Bool.not_false, Bool.false_eq_true, Nat.lt_irrefl, Nat.not_lt_zero, l_0, l_1, l_2, l_3, l_4, l_5, l_6, l_7, l_8, l_9, l_10, l_11, l_12, l_13, l_14, l_15, l_16, l_17, l_18, l_19, l_20, l_21, l_22, l_23, l_24, l_25, l_26, l_27, l_28, l_29, l_30, l_31, l_32, l_38, l_40, l_41, l_42, l_43, l_45, l_48, l_54, l_56, l_57, l_59, l_60, l_61, l_63, l_68, l_76, l_96, l_97, l_99, l_100, l_101, l_102, l_103, l_104, l_105, l_106, l_108, l_122, l_124, l_126, l_132, l_255, l_1000, l_1100, l_1134, l_1135, l_1148, l_1154, l_1188, l_1202, l_9999]
        refine ih _ ⟨fun p hp => by rw [gA_sA_ne (by omega)]; exact w1 p hp, fun p => ?_, fr_sA (fr_sA hf ⟨Or.inl rfl, rfl⟩) ⟨Or.inr rfl, rfl⟩⟩
        by_cases e : p = k
        · subst e
          rw [gA_sA_eq ⟨rfl, rfl, rfl⟩, if_pos ⟨by omega, q, q1⟩]
        · rw [gA_sA_ne (by omega), gA_sA_ne (by omega), h2 p]
          by_cases z : p < k ∧ gA P 513 a p = n32 c ∧ S (20 + p) ≤ 1
          · rw [if_pos z, if_pos ⟨by omega, z.2⟩]
          · rw [if_neg z, if_neg (fun y => z ⟨by omega, y.2⟩)]
      · have w1 := w1 (n32 (S (20 + k) - 1)) rfl
        simp (disch := omega) only [fX4_wears_b2, h1k, h2k, q, max_m1, gA_sA_eq, gA_sA_ne, gI_sI_eq, gI_sI_ne, gA_sI, gI_sA, gR_sA, gR_sI, gL_sA, gL_sI, gB_sA, gB_sI, gJ_sA, gJ_sI, gd_true, gd_pos, bd_some, lt_eq, on_some, on_none, if_pos, if_neg, ne_eq, n32_add, n32_mul, n32_in, n32_cl, n32_lt, n32_le, n32_inj, n32_m1_lt, n32_m1_le, n32_lt_m1, n32_le_m1, n32_eq_m1, n32_m1_eq, not_true_eq_false, not_false_eq_true, ite_true, ite_false, Nat.add_assoc, true_and, and_true, decide_true, decide_false, Bool.and_true, Bool.true_and, Bool.and_false, Bool.false_and, Bool.not_true, Bool.not_false, Bool.false_eq_true, Nat.lt_irrefl, Nat.not_lt_zero, l_0, l_1, l_2, l_3, l_4, l_5, l_6, l_7, l_8, l_9, l_10, l_11, l_12, l_13, l_14, l_15, l_16, l_17, l_18, l_19, l_20, l_21, l_22, l_23, l_24, l_25, l_26, l_27, l_28, l_29, l_30, l_31, l_32, l_38, l_40, l_41, l_42, l_43, l_45, l_48, l_54, l_56, l_57, l_59, l_60, l_61, l_63, l_68, l_76, l_96, l_97, l_99, l_100, l_101, l_102, l_103, l_104, l_105, l_106, l_108, l_122, l_124, l_126, l_132, l_255, l_1000, l_1100, l_1134, l_1135, l_1148, l_1154, l_1188, l_1202, l_9999]
        refine ih _ ⟨w1, fun p => ?_, fr_sA hf ⟨Or.inl rfl, rfl⟩⟩
        rw [gA_sA_ne (by omega), h2 p]
        by_cases z : p < k ∧ gA P 513 a p = n32 c ∧ S (20 + p) ≤ 1
        · rw [if_pos z, if_pos ⟨by omega, z.2⟩]
        · rw [if_neg z, if_neg (fun y => z ⟨by
            by_cases e : p = k
            · subst e; exact absurd y.2.2 q1
            · omega, y.2⟩)]
    · simp (disch := omega) only [fX4_wears_b2, h2k, q, gA_sA_eq, gA_sA_ne, gI_sI_eq, gI_sI_ne, gA_sI, gI_sA, gR_sA, gR_sI, gL_sA, gL_sI, gB_sA, gB_sI, gJ_sA, gJ_sI, gd_true, gd_pos, bd_some, lt_eq, on_some, on_none, if_pos, if_neg, ne_eq, n32_add, n32_mul, n32_in, n32_cl, n32_lt, n32_le, n32_inj, n32_m1_lt, n32_m1_le, n32_lt_m1, n32_le_m1, n32_eq_m1, n32_m1_eq, not_true_eq_false, not_false_eq_true, ite_true, ite_false, Nat.add_assoc, true_and, and_true, decide_true, decide_false, Bool.and_true, Bool.true_and, Bool.and_false, Bool.false_and, Bool.not_true, Bool.not_false, Bool.false_eq_true, Nat.lt_irrefl, Nat.not_lt_zero, l_0, l_1, l_2, l_3, l_4, l_5, l_6, l_7, l_8, l_9, l_10, l_11, l_12, l_13, l_14, l_15, l_16, l_17, l_18, l_19, l_20, l_21, l_22, l_23, l_24, l_25, l_26, l_27, l_28, l_29, l_30, l_31, l_32, l_38, l_40, l_41, l_42, l_43, l_45, l_48, l_54, l_56, l_57, l_59, l_60, l_61, l_63, l_68, l_76, l_96, l_97, l_99, l_100, l_101, l_102, l_103, l_104, l_105, l_106, l_108, l_122, l_124, l_126, l_132, l_255, l_1000, l_1100, l_1134, l_1135, l_1148, l_1154, l_1188, l_1202, l_9999]
      refine ih _ ⟨fun p hp => ?_, fun p => ?_, hf⟩
      · rw [h1 p hp]
        by_cases z : p < k ∧ gA P 513 a p = n32 c
        · rw [if_pos z, if_pos ⟨by omega, z.2⟩]
        · rw [if_neg z, if_neg (fun y => z ⟨by
            by_cases e : p = k
            · subst e; exact absurd y.2 q
            · omega, y.2⟩)]
      · rw [h2 p]
        by_cases z : p < k ∧ gA P 513 a p = n32 c ∧ S (20 + p) ≤ 1
        · rw [if_pos z, if_pos ⟨by omega, z.2⟩]
        · rw [if_neg z, if_neg (fun y => z ⟨by
            by_cases e : p = k
            · subst e; exact absurd y.2.1 q
            · omega, y.2⟩)]
  · intro n P1 ⟨h1, h2, hf⟩
    simp (disch := omega) only [fX4_wears_b2, wp_some, gd_true, gd_pos, bd_some, lt_eq, on_some, on_none, if_pos, if_neg, ne_eq, n32_add, n32_mul, n32_in, n32_cl, n32_lt, n32_le, n32_inj, n32_m1_lt, n32_m1_le, n32_lt_m1, n32_le_m1, n32_eq_m1, n32_m1_eq, not_true_eq_false, not_false_eq_true, ite_true, ite_false, Nat.add_assoc, true_and, and_true, decide_true, decide_false, Bool.and_true, Bool.true_and, Bool.and_false, Bool.false_and, Bool.not_true, Bool.not_false, Bool.false_eq_true, Nat.lt_irrefl, Nat.not_lt_zero, l_0, l_1, l_2, l_3, l_4, l_5, l_6, l_7, l_8, l_9, l_10, l_11, l_12, l_13, l_14, l_15, l_16, l_17, l_18, l_19, l_20, l_21, l_22, l_23, l_24, l_25, l_26, l_27, l_28, l_29, l_30, l_31, l_32, l_38, l_40, l_41, l_42, l_43, l_45, l_48, l_54, l_56, l_57, l_59, l_60, l_61, l_63, l_68, l_76, l_96, l_97, l_99, l_100, l_101, l_102, l_103, l_104, l_105, l_106, l_108, l_122, l_124, l_126, l_132, l_255, l_1000, l_1100, l_1134, l_1135, l_1148, l_1154, l_1188, l_1202, l_9999]
    have hg := fun r (hr : r ≠ 512 ∧ r ≠ 513) => hf r a (fun z => by omega)
    refine ⟨⟨(hg 516 (by decide)).1.trans (by rw [up_ne (by omega), p_loose_lo (by omega)]; exact a1), (hg 517 (by decide)).1.trans (by rw [up_ne (by omega), p_loose_lo (by omega)]; exact a2), fun d hd => ((hg 514 (by decide)).2.2.2.1 d).trans (by rw [up_ne (by omega), p_loose_lo (by omega)]; exact a3 d hd), fun d hd => ((hg 515 (by decide)).2.2.2.1 d).trans (by rw [up_ne (by omega), p_loose_lo (by omega)]; exact a4 d hd), fun p hp => ?_, fun p hp => ?_, fun p d hp hd => ?_⟩, hf.mono (fun r b z => ⟨z.2, by omega, by omega⟩)⟩
    · rw [h1 p hp, up_ne (by omega)]
      have h7 := a7 p c hp hc
      unfold p_loose
      by_cases z : gA P 513 a p = n32 c
      · rw [if_pos ⟨hp, z⟩, if_pos ⟨by omega, by omega, by rw [Nat.add_sub_cancel_left]; exact h7.mpr z⟩]
      · rw [if_neg (fun y => z y.2), if_neg (by rw [Nat.add_sub_cancel_left]; exact fun y => z (h7.mp y.2.2))]
    · rw [h2 p]
      by_cases z : p < 8 ∧ gA P 513 a p = n32 c ∧ S (20 + p) ≤ 1
      · rw [if_pos z]
        exact Or.inl rfl
      · rw [if_neg z]
        exact a6 p hp
    · have h7 := a7 p c hp hc
      have hk : (p_kept (p_loose S (S (14 + c))) (S (14 + c))).testBit p = ((S (14 + c)).testBit p && decide (0 < p_loose S (S (14 + c)) (20 + p))) := by
        unfold p_kept
        rw [qk_bit, decide_eq_true hp, Bool.true_and]
      rw [h2 p]
      by_cases z : gA P 513 a p = n32 c
      · have hbit := h7.mpr z
        have hl : p_loose S (S (14 + c)) (20 + p) = S (20 + p) - 1 := if_pos ⟨by omega, by omega, by rw [Nat.add_sub_cancel_left]; exact hbit⟩
        rw [hl, hbit, Bool.true_and] at hk
        by_cases z1 : S (20 + p) ≤ 1
        · rw [if_pos ⟨hp, z, z1⟩]
          rw [decide_eq_false (show ¬ 0 < S (20 + p) - 1 by omega)] at hk
          by_cases e : d = c
          · subst e
            rw [up_eq rfl, hk]
            exact ⟨fun y => absurd y (by decide), fun y => absurd y (fun w => (n32_m1_eq (by omega)).mp w)⟩
          · rw [up_ne (by omega), p_loose_lo (by omega)]
            constructor
            · intro y
              have := (a7 p d hp hd).mp y
              rw [z] at this
              exact absurd ((n32_inj (by omega) (by omega)).mp this) (fun w => e w.symm)
            · exact fun y => absurd y (fun w => (n32_m1_eq (by omega)).mp w)
        · rw [if_neg (fun y => z1 y.2.2)]
          rw [decide_eq_true (show 0 < S (20 + p) - 1 by omega)] at hk
          by_cases e : d = c
          · subst e
            rw [up_eq rfl, hk]
            exact ⟨fun _ => z, fun _ => rfl⟩
          · rw [up_ne (by omega), p_loose_lo (by omega)]
            exact a7 p d hp hd
      · rw [if_neg (fun y => z y.2.1)]
        have hbit : (S (14 + c)).testBit p = false := by
          cases q : (S (14 + c)).testBit p with
          | false => rfl
          | true => exact absurd (h7.mp q) z
        rw [hbit, Bool.false_and] at hk
        by_cases e : d = c
        · subst e
          rw [up_eq rfl, hk]
          exact ⟨fun y => absurd y (by decide), fun y => absurd y z⟩
        · rw [up_ne (by omega), p_loose_lo (by omega)]
          exact a7 p d hp hd
theorem cS.wet {P : mm_P} {a c v : Nat} {S : Nat → Nat} (h : cS P a S) (hc : c < 6) : cS (sA P 514 a c (n32 v)) a (up S (2 + c) v) := by
  obtain ⟨a1, a2, a3, a4, a5, a6, a7⟩ := h
  refine ⟨by rw [up_ne (by omega)]; exact a1, by rw [up_ne (by omega)]; exact a2, fun d hd => ?_, fun d hd => ?_, fun p hp => ?_, fun p hp => ?_, fun p d hp hd => ?_⟩
  · by_cases e : d = c
    · subst e
      rw [gA_sA_eq ⟨rfl, rfl, rfl⟩, up_eq rfl]
    · rw [gA_sA_ne (by omega), up_ne (by omega)]
      exact a3 d hd
  · rw [gA_sA_ne (by omega), up_ne (by omega)]
    exact a4 d hd
  · rw [gA_sA_ne (by omega), up_ne (by omega)]
    exact a5 p hp
  · rw [gA_sA_ne (by omega)]
    exact a6 p hp
  · rw [gA_sA_ne (by omega), up_ne (by omega)]
    exact a7 p d hp hd
theorem cS.stain {P : mm_P} {a c v : Nat} {S : Nat → Nat} (h : cS P a S) (hc : c < 6) : cS (sA P 515 a c (n32 v)) a (up S (8 + c) v) := by
  obtain ⟨a1, a2, a3, a4, a5, a6, a7⟩ := h
  refine ⟨by rw [up_ne (by omega)]; exact a1, by rw [up_ne (by omega)]; exact a2, fun d hd => ?_, fun d hd => ?_, fun p hp => ?_, fun p hp => ?_, fun p d hp hd => ?_⟩
  · rw [gA_sA_ne (by omega), up_ne (by omega)]
    exact a3 d hd
  · by_cases e : d = c
    · subst e
      rw [gA_sA_eq ⟨rfl, rfl, rfl⟩, up_eq rfl]
    · rw [gA_sA_ne (by omega), up_ne (by omega)]
      exact a4 d hd
  · rw [gA_sA_ne (by omega), up_ne (by omega)]
    exact a5 p hp
  · rw [gA_sA_ne (by omega)]
    exact a6 p hp
  · rw [gA_sA_ne (by omega), up_ne (by omega)]
    exact a7 p d hp hd
theorem cS.hour {P : mm_P} {a v : Nat} {S : Nat → Nat} (h : cS P a S) : cS (sI P 516 a (n32 v)) a (up S 0 v) := by
  obtain ⟨a1, a2, a3, a4, a5, a6, a7⟩ := h
  refine ⟨by rw [up_eq rfl]; exact gI_sI_eq ⟨rfl, rfl⟩, by rw [up_ne (by omega), gI_sI_ne (by omega)]; exact a2, fun d hd => by rw [up_ne (by omega)]; exact a3 d hd, fun d hd => by rw [up_ne (by omega)]; exact a4 d hd, fun p hp => by rw [up_ne (by omega)]; exact a5 p hp, a6, fun p d hp hd => by rw [up_ne (by omega)]; exact a7 p d hp hd⟩
theorem c_falls {P : mm_P} {a c : Nat} {S : Nat → Nat} (h : cS P a S) (hc : c < 6) (h9 : S (8 + c) ≤ 9) : wp (fX4_falls a (n32 c) P) (fun P' => cS P' a (p_fall S c) ∧ fr (cw a) P P') := by
  unfold fX4_falls
  rw [wp_bd]
  refine wp_mono (c_comesIn h hc) fun P1 ⟨h1, hf⟩ => ?_
  have h2 := h1.wet (c := c) (v := 9) hc
  have e := h2.2.2.2.1 c hc
  rw [up_ne (by omega), up_ne (by omega)] at e
  simp (disch := omega) only [e, n32_min, gA_sA_eq, gA_sA_ne, gI_sI_eq, gI_sI_ne, gA_sI, gI_sA, gR_sA, gR_sI, gL_sA, gL_sI, gB_sA, gB_sI, gJ_sA, gJ_sI, wp_some, wp_gd, wp_bd, wp_lt, wp_ite, gd_true, gd_pos, bd_some, lt_eq, on_some, on_none, if_pos, if_neg, ne_eq, n32_add, n32_mul, n32_in, n32_cl, n32_lt, n32_le, n32_inj, n32_m1_lt, n32_m1_le, n32_lt_m1, n32_le_m1, n32_eq_m1, n32_m1_eq, not_true_eq_false, not_false_eq_true, ite_true, ite_false, Nat.add_assoc, true_and, and_true, decide_true, decide_false, Bool.and_true, Bool.true_and, Bool.and_false, Bool.false_and, Bool.not_true, Bool.not_false, Bool.false_eq_true, Nat.lt_irrefl, Nat.not_lt_zero, l_0, l_1, l_2, l_3, l_4, l_5, l_6, l_7, l_8, l_9, l_10, l_11, l_12, l_13, l_14, l_15, l_16, l_17, l_18, l_19, l_20, l_21, l_22, l_23, l_24, l_25, l_26, l_27, l_28, l_29, l_30, l_31, l_32, l_38, l_40, l_41, l_42, l_43, l_45, l_48, l_54, l_56, l_57, l_59, l_60, l_61, l_63, l_68, l_76, l_96, l_97, l_99, l_100, l_101, l_102, l_103, l_104, l_105, l_106, l_108, l_122, l_124, l_126, l_132, l_255, l_1000, l_1100, l_1134, l_1135, l_1148, l_1154, l_1188, l_1202, l_9999]
  exact ⟨h2.stain hc, fr_sA (fr_sA hf ⟨rfl, by decide, by decide⟩) ⟨rfl, by decide, by decide⟩⟩
theorem c_copies {P : mm_P} {r0 x0 n0 r1 x1 n1 : Nat} (hn : n1 ≤ n0) (hn1 : n1 < 2000) : wp (fX1_copies r0 x0 n0 r1 x1 n1 P) (fun P' => (∀ i, gA P' r1 x1 i = if i < n1 then gA P r0 x0 i else gA P r1 x1 i) ∧ fr (fun c b => c = r1 ∧ b = x1) P P') := by
  refine wp_loop0 (L := fun n k s => fX1_copies_b2 r0 x0 n0 r1 x1 n1 n (n32 k) s) (fun k P' => (∀ i, gA P' r1 x1 i = if i < k then gA P r0 x0 i else gA P r1 x1 i) ∧ fr (fun c b => c = r1 ∧ b = x1) P P') n1 (by omega) ⟨fun i => by rw [if_neg (by omega)], fr_refl _ _⟩ ?_ ?_
  · intro n k P1 hk ⟨h1, hf⟩ ih
    have hv : gA P1 r0 x0 k = gA P r0 x0 k := by
      by_cases e : r0 = r1 ∧ x0 = x1
      · obtain ⟨rfl, rfl⟩ := e
        rw [h1 k, if_neg (by omega)]
      · exact (hf r0 x0 e).2.2.2.1 k
    simp (disch := omega) only [fX1_copies_b2, n32_def, hv, gd_true, gd_pos, bd_some, lt_eq, on_some, on_none, if_pos, if_neg, ne_eq, n32_add, n32_mul, n32_in, n32_cl, n32_lt, n32_le, n32_inj, n32_m1_lt, n32_m1_le, n32_lt_m1, n32_le_m1, n32_eq_m1, n32_m1_eq, not_true_eq_false, not_false_eq_true, ite_true, ite_false, Nat.add_assoc, true_and, and_true, decide_true, decide_false, Bool.and_true, Bool.true_and, Bool.and_false, Bool.false_and, Bool.not_true, Bool.not_false, Bool.false_eq_true, Nat.lt_irrefl, Nat.not_lt_zero, l_0, l_1, l_2, l_3, l_4, l_5, l_6, l_7, l_8, l_9, l_10, l_11, l_12, l_13, l_14, l_15, l_16, l_17, l_18, l_19, l_20, l_21, l_22, l_23, l_24, l_25, l_26, l_27, l_28, l_29, l_30, l_31, l_32, l_38, l_40, l_41, l_42, l_43, l_45, l_48, l_54, l_56, l_57, l_59, l_60, l_61, l_63, l_68, l_76, l_96, l_97, l_99, l_100, l_101, l_102, l_103, l_104, l_105, l_106, l_108, l_122, l_124, l_126, l_132, l_255, l_1000, l_1100, l_1134, l_1135, l_1148, l_1154, l_1188, l_1202, l_9999]
    refine ih _ ⟨fun i => ?_, fr_sA hf ⟨rfl, rfl⟩⟩
    by_cases e : i = k
    · subst e
      rw [gA_sA_eq ⟨rfl, rfl, rfl⟩, if_pos (by omega)]
    · rw [gA_sA_ne (by omega), h1 i]
      by_cases z : i < k
      · rw [if_pos z, if_pos (by omega)]
      · rw [if_neg z, if_neg (by omega)]
  · intro n P1 ⟨h1, hf⟩
    simp (disch := omega) only [fX1_copies_b2, n32_def, wp_some, gd_true, gd_pos, bd_some, lt_eq, on_some, on_none, if_pos, if_neg, ne_eq, n32_add, n32_mul, n32_in, n32_cl, n32_lt, n32_le, n32_inj, n32_m1_lt, n32_m1_le, n32_lt_m1, n32_le_m1, n32_eq_m1, n32_m1_eq, not_true_eq_false, not_false_eq_true, ite_true, ite_false, Nat.add_assoc, true_and, and_true, decide_true, decide_false, Bool.and_true, Bool.true_and, Bool.and_false, Bool.false_and, Bool.not_true, Bool.not_false, Bool.false_eq_true, Nat.lt_irrefl, Nat.not_lt_zero, l_0, l_1, l_2, l_3, l_4, l_5, l_6, l_7, l_8, l_9, l_10, l_11, l_12, l_13, l_14, l_15, l_16, l_17, l_18, l_19, l_20, l_21, l_22, l_23, l_24, l_25, l_26, l_27, l_28, l_29, l_30, l_31, l_32, l_38, l_40, l_41, l_42, l_43, l_45, l_48, l_54, l_56, l_57, l_59, l_60, l_61, l_63, l_68, l_76, l_96, l_97, l_99, l_100, l_101, l_102, l_103, l_104, l_105, l_106, l_108, l_122, l_124, l_126, l_132, l_255, l_1000, l_1100, l_1134, l_1135, l_1148, l_1154, l_1188, l_1202, l_9999]
    exact ⟨h1, hf⟩
theorem c_be {K : mm_K} {P : mm_P} {a o : Nat} {S : Nat → Nat} (h : cS P o S) (hk : K.1 o = 4) (hne : o ≠ a) : wp (fX4_be K a o P) (fun P' => cS P' a S ∧ fr (cw a) P P') := by
  have m1 : ∀ r, r = 512 ∨ r = 513 ∨ r = 514 ∨ r = 515 → ∀ c b, (c = r ∧ b = a) → cw a c b := fun r hr c b z => ⟨z.2, by omega, by omega⟩
  unfold fX4_be
  rw [gd_pos hk, wp_bd]
  refine wp_mono (c_copies (by decide) (by decide)) fun P1 ⟨g1, f1⟩ => ?_
  rw [wp_bd]
  refine wp_mono (c_copies (by decide) (by decide)) fun P2 ⟨g2, f2⟩ => ?_
  rw [wp_bd]
  refine wp_mono (c_copies (by decide) (by decide)) fun P3 ⟨g3, f3⟩ => ?_
  rw [wp_bd]
  refine wp_mono (c_copies (by decide) (by decide)) fun P4 ⟨g4, f4⟩ => ?_
  have hf : fr (cw a) P P4 := ((f1.mono (m1 512 (by decide))).trans (f2.mono (m1 513 (by decide)))).trans ((f3.mono (m1 514 (by decide))).trans (f4.mono (m1 515 (by decide))))
  have k1 := h.fr (f1.mono (m1 512 (by decide))) (fun c c1 c2 z => hne z.1)
  have k2 := k1.fr (f2.mono (m1 513 (by decide))) (fun c c1 c2 z => hne z.1)
  have k3 := k2.fr (f3.mono (m1 514 (by decide))) (fun c c1 c2 z => hne z.1)
  have k4 := k3.fr (f4.mono (m1 515 (by decide))) (fun c c1 c2 z => hne z.1)
  have e0 := k4.1
  have e1 := k4.2.1
  simp (disch := omega) only [e0, e1, gI_sI_ne (Or.inr hne), gA_sA_eq, gA_sA_ne, gI_sI_eq, gI_sI_ne, gA_sI, gI_sA, gR_sA, gR_sI, gL_sA, gL_sI, gB_sA, gB_sI, gJ_sA, gJ_sI, wp_some, wp_gd, wp_bd, wp_lt, wp_ite, gd_true, gd_pos, bd_some, lt_eq, on_some, on_none, if_pos, if_neg, ne_eq, n32_add, n32_mul, n32_in, n32_cl, n32_lt, n32_le, n32_inj, n32_m1_lt, n32_m1_le, n32_lt_m1, n32_le_m1, n32_eq_m1, n32_m1_eq, not_true_eq_false, not_false_eq_true, ite_true, ite_false, Nat.add_assoc, true_and, and_true, decide_true, decide_false, Bool.and_true, Bool.true_and, Bool.and_false, Bool.false_and, Bool.not_true, Bool.not_false, Bool.false_eq_true, Nat.lt_irrefl, Nat.not_lt_zero, l_0, l_1, l_2, l_3, l_4, l_5, l_6, l_7, l_8, l_9, l_10, l_11, l_12, l_13, l_14, l_15, l_16, l_17, l_18, l_19, l_20, l_21, l_22, l_23, l_24, l_25, l_26, l_27, l_28, l_29, l_30, l_31, l_32, l_38, l_40, l_41, l_42, l_43, l_45, l_48, l_54, l_56, l_57, l_59, l_60, l_61, l_63, l_68, l_76, l_96, l_97, l_99, l_100, l_101, l_102, l_103, l_104, l_105, l_106, l_108, l_122, l_124, l_126, l_132, l_255, l_1000, l_1100, l_1134, l_1135, l_1148, l_1154, l_1188, l_1202, l_9999]
  refine ⟨⟨?_, ?_, fun c hc => ?_, fun c hc => ?_, fun p hp => ?_, fun p hp => ?_, fun p c hp hc => ?_⟩, fr_sI (fr_sI hf ⟨rfl, by decide, by decide⟩) ⟨rfl, by decide, by decide⟩⟩
  · rw [gI_sI_ne (by omega), gI_sI_eq ⟨rfl, rfl⟩]
  · rw [gI_sI_eq ⟨rfl, rfl⟩]
  · show gA P4 514 a c = _
    rw [(f4 514 a (by omega)).2.2.2.1 c, g3 c, if_pos hc]
    exact k2.2.2.1 c hc
  · show gA P4 515 a c = _
    rw [g4 c, if_pos hc]
    exact k3.2.2.2.1 c hc
  · show gA P4 512 a p = _
    rw [(f4 512 a (by omega)).2.2.2.1 p, (f3 512 a (by omega)).2.2.2.1 p, (f2 512 a (by omega)).2.2.2.1 p, g1 p, if_pos hp]
    exact h.2.2.2.2.1 p hp
  · show gA P4 513 a p = _ ∨ ∃ c, c < 6 ∧ gA P4 513 a p = _
    rw [(f4 513 a (by omega)).2.2.2.1 p, (f3 513 a (by omega)).2.2.2.1 p, g2 p, if_pos hp]
    exact k1.2.2.2.2.2.1 p hp
  · show _ ↔ gA P4 513 a p = _
    rw [(f4 513 a (by omega)).2.2.2.1 p, (f3 513 a (by omega)).2.2.2.1 p, g2 p, if_pos hp]
    exact k1.2.2.2.2.2.2 p c hp hc
