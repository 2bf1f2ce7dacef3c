/-! THE REFERENCE: an hour. What an hour leaves true of a state. -/
set_option maxRecDepth 100000
theorem p_loose_lo {S : Nat → Nat} {x j : Nat} (h : j < 20) : p_loose S x j = S j := if_neg (by omega)
theorem p_loose_le {S : Nat → Nat} {x j : Nat} : p_loose S x j ≤ S j := by
  unfold p_loose
  split <;> omega
theorem p_fall_up {S : Nat → Nat} {c v : Nat} : p_fall (up S (14 + c) v) c = p_fall S c := by
  funext j
  unfold p_fall
  rw [up_ne (S := S) (by omega)]
  by_cases h1 : j = 8 + c
  · rw [up_eq h1, up_eq h1]
  · rw [up_ne h1, up_ne h1]
    by_cases h2 : j = 2 + c
    · rw [up_eq h2, up_eq h2]
    · rw [up_ne h2, up_ne h2]
      by_cases h3 : j = 14 + c
      · rw [up_eq h3, up_eq h3]
      · rw [up_ne h3, up_ne h3, up_ne h3]
theorem okS.up {R S : Nat → Nat} {h i v : Nat} (ok : okS R h S) (hi : i ≠ 0) (h1 : i = 1 → v ≤ 8) (h2 : 2 ≤ i → i < 14 → v ≤ 9) (h3 : 14 ≤ i → i < 20 → v < 256 ∧ (R 0 ≤ i - 14 → v = 0)) (h4 : 20 ≤ i → i < 28 → v ≤ 9) : okS R h (up S i v) := by
  obtain ⟨a1, a2, a3, a4, a5⟩ := ok
  refine ⟨by rw [up_ne (by omega)]; exact a1, ?_, fun c hc => ⟨?_, ?_, ?_⟩, fun p hp => ?_, fun c c1 c2 => ?_⟩
  · by_cases e : i = 1
    · rw [up_eq e.symm]; exact h1 e
    · rw [up_ne (by omega)]; exact a2
  · by_cases e : 2 + c = i
    · rw [up_eq e]; exact h2 (by omega) (by omega)
    · rw [up_ne e]; exact (a3 c hc).1
  · by_cases e : 8 + c = i
    · rw [up_eq e]; exact h2 (by omega) (by omega)
    · rw [up_ne e]; exact (a3 c hc).2.1
  · by_cases e : 14 + c = i
    · rw [up_eq e]; exact (h3 (by omega) (by omega)).1
    · rw [up_ne e]; exact (a3 c hc).2.2
  · by_cases e : 20 + p = i
    · rw [up_eq e]; exact h4 (by omega) (by omega)
    · rw [up_ne e]; exact a4 p hp
  · by_cases e : 14 + c = i
    · rw [up_eq e]; exact (h3 (by omega) (by omega)).2 (by omega)
    · rw [up_ne e]; exact a5 c c1 c2
theorem okS.loose {R S : Nat → Nat} {h x : Nat} (ok : okS R h S) : okS R h (p_loose S x) := by
  obtain ⟨a1, a2, a3, a4, a5⟩ := ok
  refine ⟨by rw [p_loose_lo (by decide)]; exact a1, by rw [p_loose_lo (by decide)]; exact a2, fun c hc => ?_, fun p hp => Nat.le_trans p_loose_le (a4 p hp), fun c c1 c2 => by rw [p_loose_lo (by omega)]; exact a5 c c1 c2⟩
  rw [p_loose_lo (by omega), p_loose_lo (by omega), p_loose_lo (by omega)]
  exact a3 c hc
theorem okS.fall {R S : Nat → Nat} {h c : Nat} (ok : okS R h S) (hc : c < 6) : okS R h (p_fall S c) :=
  ((ok.up (i := 14 + c) (v := 0) (by omega) (by omega) (by omega) (fun _ _ => ⟨by decide, fun _ => rfl⟩) (by omega)).up (i := 2 + c) (v := 9) (by omega) (by omega) (by omega) (by omega) (by omega)).up (by omega) (by omega) (by omega) (by omega) (by omega)
theorem okS.pl {R S : Nat → Nat} {h c w : Nat} {cp : Option (List (Nat × Nat))} (ok : okS R h S) (hc : c < 6) (hn : c < R 0) : okS R h (p_pl R cp S c w).1 := by
  unfold p_pl
  dsimp only
  split
  · exact ok
  · split
    · exact ok.loose.up (by omega) (by omega) (by omega) (fun _ _ => ⟨qk_lt _ 8, by omega⟩) (by omega)
    · exact ok.loose.fall hc
theorem okS.dr {R S : Nat → Nat} {h c w : Nat} {cd : Option (List (Nat × Nat))} (ok : okS R h S) (hc : c < 6) : okS R h (p_dr R cd S c w) := by
  unfold p_dr
  split
  · exact ok
  · exact ok.up (by omega) (by omega) (fun _ _ => Nat.le_trans (p_dried_le _ _ _ _ _) (ok.2.2.1 c hc).1) (by omega) (by omega)
theorem okS.plN {R S : Nat → Nat} {h w : Nat} {cp : Option (List (Nat × Nat))} (ok : okS R h S) (h6 : R 0 ≤ 6) : ∀ k, k ≤ R 0 → okS R h (p_plN R cp S w k).1 := by
  intro k
  induction k with
  | zero => exact fun _ => ok
  | succ k ih =>
    intro hk
    have := ih (by omega)
    unfold p_plN
    dsimp only
    split
    · exact this
    · exact this.pl (by omega) (by omega)
theorem okS.drN {R S : Nat → Nat} {h w : Nat} {cd : Option (List (Nat × Nat))} (ok : okS R h S) : ∀ k, k ≤ 6 → okS R h (p_drN R cd S w k) := by
  intro k
  induction k with
  | zero => exact fun _ => ok
  | succ k ih => exact fun hk => (ih (by omega)).dr (by omega)
theorem okS.mono {R S : Nat → Nat} {h h' : Nat} (ok : okS R h S) (hh : h ≤ h') : okS R h' S := ⟨Nat.le_trans ok.1 hh, ok.2⟩
theorem okS.pass {R S : Nat → Nat} {h more : Nat} {cp cd : Option (List (Nat × Nat))} (ok : okS R h S) (h6 : R 0 ≤ 6) : okS R (h + 1) (p_pass R cp cd S more).1 := by
  have h1 := (ok.plN (cp := cp) (w := p_wind R (S 0) + more) h6 (R 0) (Nat.le_refl _)).drN (cd := cd) (w := p_wind R (S 0) + more) (R 0) h6
  obtain ⟨a1, a2, a3, a4, a5⟩ := h1
  unfold p_pass
  dsimp only
  refine ⟨by rw [up_eq rfl]; omega, by rw [up_ne (by decide)]; exact a2, fun c hc => ?_, fun p hp => by rw [up_ne (by omega)]; exact a4 p hp, fun c c1 c2 => by rw [up_ne (by omega)]; exact a5 c c1 c2⟩
  rw [up_ne (by omega), up_ne (by omega), up_ne (by omega)]
  exact a3 c hc
theorem p_grips_le {S : Nat → Nat} {b : Nat} (hb : ∀ i, S i ≤ b) (x : Nat) : p_grips S x ≤ 8 * b := sm_le (fun p _ => by
  have := hb (20 + p)
  split <;> omega)
theorem t_pulls {m b c w : Nat} {P : mm_P} {R S : Nat → Nat} {cp : Option (List (Nat × Nat))} (h : tR m P R) (hE : tE m P 6 cp) (hS : tS m P b S) (hb : b + 28 ≤ 1242) (hc : c < 6) (hx : S (14 + c) < 256) (h9 : S (8 + c) ≤ 9) : wp (fX5_pulls m (n32 b) (n32 c) (n32 w) P) (fun r => tS m r.2 b (p_pl R cp S c w).1 ∧ r.1 = b2 (p_pl R cp S c w).2 ∧ tU m P b r.2) := by
  obtain ⟨hS', hSb⟩ := hS
  have hS := hS'
  have hg := p_grips_le hSb (S (14 + c))
  have hv := p_pull_le R cp c (S (2 + c)) w
  simp (disch := (first | omega | (refine Nat.lt_of_le_of_lt (hSb _) ?_; decide))) only [fX5_pulls, hS, wp_bd, gd_true, gd_pos, bd_some, lt_eq, on_some, on_none, if_pos, if_neg, ne_eq, n32_add, n32_mul, n32_in, n32_cl, n32_lt, n32_le, n32_inj, n32_m1_lt, n32_m1_le, n32_lt_m1, n32_le_m1, n32_eq_m1, n32_m1_eq, not_true_eq_false, not_false_eq_true, ite_true, ite_false, Nat.add_assoc, true_and, and_true, decide_true, decide_false, Bool.and_true, Bool.true_and, Bool.and_false, Bool.false_and, Bool.not_true, Bool.not_false, Bool.false_eq_true, Nat.lt_irrefl, Nat.not_lt_zero, l_0, l_1, l_2, l_3, l_4, l_5, l_6, l_7, l_8, l_9, l_10, l_11, l_12, l_13, l_14, l_15, l_16, l_17, l_18, l_19, l_20, l_21, l_22, l_23, l_24, l_25, l_26, l_27, l_28, l_29, l_30, l_31, l_32, l_38, l_40, l_41, l_42, l_43, l_45, l_48, l_54, l_56, l_57, l_59, l_60, l_61, l_63, l_68, l_76, l_96, l_97, l_99, l_100, l_101, l_102, l_103, l_104, l_105, l_106, l_108, l_122, l_124, l_126, l_132, l_255, l_1000, l_1100, l_1134, l_1135, l_1148, l_1154, l_1188, l_1202, l_9999]
  refine wp_mono (t_pullOf h hE hc) fun r1 ⟨e1, hf1⟩ => ?_
  obtain ⟨u1, P1⟩ := r1
  dsimp only at e1 hf1 ⊢
  subst e1
  have hS1 : tS m P1 b S := tS.fr ⟨hS', hSb⟩ hf1 (by simp [ww])
  have hU1 : tU m P b P1 := (tU.refl m P b).fr hf1
  unfold p_pl
  dsimp only
  generalize hvv : p_pull R cp c (S (2 + c)) w = v at hv ⊢
  simp (disch := omega) only [t_gripsOf hS1, wp_some, gd_true, gd_pos, bd_some, lt_eq, on_some, on_none, if_pos, if_neg, ne_eq, n32_add, n32_mul, n32_in, n32_cl, n32_lt, n32_le, n32_inj, n32_m1_lt, n32_m1_le, n32_lt_m1, n32_le_m1, n32_eq_m1, n32_m1_eq, not_true_eq_false, not_false_eq_true, ite_true, ite_false, Nat.add_assoc, true_and, and_true, decide_true, decide_false, Bool.and_true, Bool.true_and, Bool.and_false, Bool.false_and, Bool.not_true, Bool.not_false, Bool.false_eq_true, Nat.lt_irrefl, Nat.not_lt_zero, l_0, l_1, l_2, l_3, l_4, l_5, l_6, l_7, l_8, l_9, l_10, l_11, l_12, l_13, l_14, l_15, l_16, l_17, l_18, l_19, l_20, l_21, l_22, l_23, l_24, l_25, l_26, l_27, l_28, l_29, l_30, l_31, l_32, l_38, l_40, l_41, l_42, l_43, l_45, l_48, l_54, l_56, l_57, l_59, l_60, l_61, l_63, l_68, l_76, l_96, l_97, l_99, l_100, l_101, l_102, l_103, l_104, l_105, l_106, l_108, l_122, l_124, l_126, l_132, l_255, l_1000, l_1100, l_1134, l_1135, l_1148, l_1154, l_1188, l_1202, l_9999]
  by_cases q : 2 * v ≤ p_grips S (S (14 + c))
  · simp (disch := omega) only [q, wp_some, gd_true, gd_pos, bd_some, lt_eq, on_some, on_none, if_pos, if_neg, ne_eq, n32_add, n32_mul, n32_in, n32_cl, n32_lt, n32_le, n32_inj, n32_m1_lt, n32_m1_le, n32_lt_m1, n32_le_m1, n32_eq_m1, n32_m1_eq, not_true_eq_false, not_false_eq_true, ite_true, ite_false, Nat.add_assoc, true_and, and_true, decide_true, decide_false, Bool.and_true, Bool.true_and, Bool.and_false, Bool.false_and, Bool.not_true, Bool.not_false, Bool.false_eq_true, Nat.lt_irrefl, Nat.not_lt_zero, l_0, l_1, l_2, l_3, l_4, l_5, l_6, l_7, l_8, l_9, l_10, l_11, l_12, l_13, l_14, l_15, l_16, l_17, l_18, l_19, l_20, l_21, l_22, l_23, l_24, l_25, l_26, l_27, l_28, l_29, l_30, l_31, l_32, l_38, l_40, l_41, l_42, l_43, l_45, l_48, l_54, l_56, l_57, l_59, l_60, l_61, l_63, l_68, l_76, l_96, l_97, l_99, l_100, l_101, l_102, l_103, l_104, l_105, l_106, l_108, l_122, l_124, l_126, l_132, l_255, l_1000, l_1100, l_1134, l_1135, l_1148, l_1154, l_1188, l_1202, l_9999]
    exact ⟨hS1, rfl, hU1⟩
  · simp (disch := omega) only [q, wp_bd, wp_some, gd_true, gd_pos, bd_some, lt_eq, on_some, on_none, if_pos, if_neg, ne_eq, n32_add, n32_mul, n32_in, n32_cl, n32_lt, n32_le, n32_inj, n32_m1_lt, n32_m1_le, n32_lt_m1, n32_le_m1, n32_eq_m1, n32_m1_eq, not_true_eq_false, not_false_eq_true, ite_true, ite_false, Nat.add_assoc, true_and, and_true, decide_true, decide_false, Bool.and_true, Bool.true_and, Bool.and_false, Bool.false_and, Bool.not_true, Bool.not_false, Bool.false_eq_true, Nat.lt_irrefl, Nat.not_lt_zero, l_0, l_1, l_2, l_3, l_4, l_5, l_6, l_7, l_8, l_9, l_10, l_11, l_12, l_13, l_14, l_15, l_16, l_17, l_18, l_19, l_20, l_21, l_22, l_23, l_24, l_25, l_26, l_27, l_28, l_29, l_30, l_31, l_32, l_38, l_40, l_41, l_42, l_43, l_45, l_48, l_54, l_56, l_57, l_59, l_60, l_61, l_63, l_68, l_76, l_96, l_97, l_99, l_100, l_101, l_102, l_103, l_104, l_105, l_106, l_108, l_122, l_124, l_126, l_132, l_255, l_1000, l_1100, l_1134, l_1135, l_1148, l_1154, l_1188, l_1202, l_9999]
    refine wp_mono (t_loosens hS1 hb hx) fun P2 ⟨hS2, hU2⟩ => ?_
    have hU2 := hU1.trans hU2
    have fin : ∀ (S3 : Nat → Nat) (P3 : mm_P), tS m P3 b S3 → S3 (8 + c) ≤ 9 → tU m P b P3 → wp (fX5_pulls_b104 m (n32 b) (n32 c) P3) (fun r => tS m r.2 b (p_fall S3 c) ∧ r.1 = b2 true ∧ tU m P b r.2) := by
      intro S3 P3 h1 h2 h3
      unfold fX5_pulls_b104
      rw [wp_bd]
      refine wp_mono (t_falls h1 hb hc h2) fun P4 ⟨h4, h5⟩ => ?_
      exact wp_some.mpr ⟨h4, rfl, h3.trans h5⟩
    by_cases q2 : v ≤ p_grips S (S (14 + c))
    · simp (disch := omega) only [q2, t_held hS2, wp_some, gd_true, gd_pos, bd_some, lt_eq, on_some, on_none, if_pos, if_neg, ne_eq, n32_add, n32_mul, n32_in, n32_cl, n32_lt, n32_le, n32_inj, n32_m1_lt, n32_m1_le, n32_lt_m1, n32_le_m1, n32_eq_m1, n32_m1_eq, not_true_eq_false, not_false_eq_true, ite_true, ite_false, Nat.add_assoc, true_and, and_true, decide_true, decide_false, Bool.and_true, Bool.true_and, Bool.and_false, Bool.false_and, Bool.not_true, Bool.not_false, Bool.false_eq_true, Nat.lt_irrefl, Nat.not_lt_zero, l_0, l_1, l_2, l_3, l_4, l_5, l_6, l_7, l_8, l_9, l_10, l_11, l_12, l_13, l_14, l_15, l_16, l_17, l_18, l_19, l_20, l_21, l_22, l_23, l_24, l_25, l_26, l_27, l_28, l_29, l_30, l_31, l_32, l_38, l_40, l_41, l_42, l_43, l_45, l_48, l_54, l_56, l_57, l_59, l_60, l_61, l_63, l_68, l_76, l_96, l_97, l_99, l_100, l_101, l_102, l_103, l_104, l_105, l_106, l_108, l_122, l_124, l_126, l_132, l_255, l_1000, l_1100, l_1134, l_1135, l_1148, l_1154, l_1188, l_1202, l_9999]
      have hk := qk_lt (fun p => (S (14 + c)).testBit p && decide (0 < p_loose S (S (14 + c)) (20 + p))) 8
      have hk : p_kept (p_loose S (S (14 + c))) (S (14 + c)) < 256 := hk
      have hS3 := hS2.up (i := 14 + c) (v := p_kept (p_loose S (S (14 + c))) (S (14 + c))) (by omega)
      have hU3 := hU2.put (i := 14 + c) (v := n32 (p_kept (p_loose S (S (14 + c))) (S (14 + c))))
      have e3 := hS3.1 (14 + c) (by omega)
      rw [up_eq rfl] at e3
      by_cases q3 : p_kept (p_loose S (S (14 + c))) (S (14 + c)) = 0
      · rw [q3] at hS3 hU3 e3 ⊢
        simp (disch := omega) only [fX5_pulls_b83, e3, gd_true, gd_pos, bd_some, lt_eq, on_some, on_none, if_pos, if_neg, ne_eq, n32_add, n32_mul, n32_in, n32_cl, n32_lt, n32_le, n32_inj, n32_m1_lt, n32_m1_le, n32_lt_m1, n32_le_m1, n32_eq_m1, n32_m1_eq, not_true_eq_false, not_false_eq_true, ite_true, ite_false, Nat.add_assoc, true_and, and_true, decide_true, decide_false, Bool.and_true, Bool.true_and, Bool.and_false, Bool.false_and, Bool.not_true, Bool.not_false, Bool.false_eq_true, Nat.lt_irrefl, Nat.not_lt_zero, l_0, l_1, l_2, l_3, l_4, l_5, l_6, l_7, l_8, l_9, l_10, l_11, l_12, l_13, l_14, l_15, l_16, l_17, l_18, l_19, l_20, l_21, l_22, l_23, l_24, l_25, l_26, l_27, l_28, l_29, l_30, l_31, l_32, l_38, l_40, l_41, l_42, l_43, l_45, l_48, l_54, l_56, l_57, l_59, l_60, l_61, l_63, l_68, l_76, l_96, l_97, l_99, l_100, l_101, l_102, l_103, l_104, l_105, l_106, l_108, l_122, l_124, l_126, l_132, l_255, l_1000, l_1100, l_1134, l_1135, l_1148, l_1154, l_1188, l_1202, l_9999]
        have := fin _ _ hS3 (by rw [up_ne (by omega), p_loose_lo (by omega)]; exact h9) hU3
        rw [p_fall_up] at this
        exact this
      · simp (disch := omega) only [fX5_pulls_b83, e3, q3, wp_some, gd_true, gd_pos, bd_some, lt_eq, on_some, on_none, if_pos, if_neg, ne_eq, n32_add, n32_mul, n32_in, n32_cl, n32_lt, n32_le, n32_inj, n32_m1_lt, n32_m1_le, n32_lt_m1, n32_le_m1, n32_eq_m1, n32_m1_eq, not_true_eq_false, not_false_eq_true, ite_true, ite_false, Nat.add_assoc, true_and, and_true, decide_true, decide_false, Bool.and_true, Bool.true_and, Bool.and_false, Bool.false_and, Bool.not_true, Bool.not_false, Bool.false_eq_true, Nat.lt_irrefl, Nat.not_lt_zero, l_0, l_1, l_2, l_3, l_4, l_5, l_6, l_7, l_8, l_9, l_10, l_11, l_12, l_13, l_14, l_15, l_16, l_17, l_18, l_19, l_20, l_21, l_22, l_23, l_24, l_25, l_26, l_27, l_28, l_29, l_30, l_31, l_32, l_38, l_40, l_41, l_42, l_43, l_45, l_48, l_54, l_56, l_57, l_59, l_60, l_61, l_63, l_68, l_76, l_96, l_97, l_99, l_100, l_101, l_102, l_103, l_104, l_105, l_106, l_108, l_122, l_124, l_126, l_132, l_255, l_1000, l_1100, l_1134, l_1135, l_1148, l_1154, l_1188, l_1202, l_9999]
        exact ⟨hS3, rfl, hU3⟩
    · simp (disch := omega) only [q2, fX5_pulls_b83, gd_true, gd_pos, bd_some, lt_eq, on_some, on_none, if_pos, if_neg, ne_eq, n32_add, n32_mul, n32_in, n32_cl, n32_lt, n32_le, n32_inj, n32_m1_lt, n32_m1_le, n32_lt_m1, n32_le_m1, n32_eq_m1, n32_m1_eq, not_true_eq_false, not_false_eq_true, ite_true, ite_false, Nat.add_assoc, true_and, and_true, decide_true, decide_false, Bool.and_true, Bool.true_and, Bool.and_false, Bool.false_and, Bool.not_true, Bool.not_false, Bool.false_eq_true, Nat.lt_irrefl, Nat.not_lt_zero, l_0, l_1, l_2, l_3, l_4, l_5, l_6, l_7, l_8, l_9, l_10, l_11, l_12, l_13, l_14, l_15, l_16, l_17, l_18, l_19, l_20, l_21, l_22, l_23, l_24, l_25, l_26, l_27, l_28, l_29, l_30, l_31, l_32, l_38, l_40, l_41, l_42, l_43, l_45, l_48, l_54, l_56, l_57, l_59, l_60, l_61, l_63, l_68, l_76, l_96, l_97, l_99, l_100, l_101, l_102, l_103, l_104, l_105, l_106, l_108, l_122, l_124, l_126, l_132, l_255, l_1000, l_1100, l_1134, l_1135, l_1148, l_1154, l_1188, l_1202, l_9999]
      simp only [false_and, if_false]
      exact fin _ _ hS2 (by rw [p_loose_lo (by omega)]; exact h9) hU2
theorem t_pass69 {m b w h : Nat} {P : mm_P} {R S : Nat → Nat} {cd : Option (List (Nat × Nat))} {x : Int32} (hR : tR m P R) (h6 : R 0 ≤ 6) (hE : tE m P 7 cd) (hS : tS m P b S) (ok : okS R h S) (hh : h < 1000000) (hb : b + 28 ≤ 1242) : wp (fX5_passes_b69 m mm_NF (n32 b) (n32 w) x (n32 0) P) (fun r => tS m r.2 b (up (p_drN R cd S w (R 0)) 0 (p_drN R cd S w (R 0) 0 + 1)) ∧ r.1 = x ∧ tU m P b r.2) := by
  refine wp_loop0 (L := fun n k s => fX5_passes_b69 m n (n32 b) (n32 w) x (n32 k) s) (fun k P' => tS m P' b (p_drN R cd S w k) ∧ tU m P b P') (R 0) (by omega) ⟨hS, tU.refl m P b⟩ ?_ ?_
  · intro n k P1 hk ⟨h1, hU⟩ ih
    have hR1 := hU.tR hR
    have hE1 := hU.tE hE
    have ok1 := ok.drN (cd := cd) (w := w) k (by omega)
    obtain ⟨a1, a2, a3, a4, a5⟩ := ok1
    have e1 := t_isHung h1 hb (show k < 6 by omega)
    have a3 := a3 k (by omega)
    have hw := h1.1 (2 + k) (by omega)
    by_cases q : p_drN R cd S w k (14 + k) = 0
    · have e : p_drN R cd S w (k + 1) = p_drN R cd S w k := by
        show p_dr R cd (p_drN R cd S w k) k w = _
        unfold p_dr
        rw [if_pos q]
      rw [q] at e1
      simp (disch := omega) only [fX5_passes_b69, t_cloths hR1, e1, b2, gd_true, gd_pos, bd_some, lt_eq, on_some, on_none, if_pos, if_neg, ne_eq, n32_add, n32_mul, n32_in, n32_cl, n32_lt, n32_le, n32_inj, n32_m1_lt, n32_m1_le, n32_lt_m1, n32_le_m1, n32_eq_m1, n32_m1_eq, not_true_eq_false, not_false_eq_true, ite_true, ite_false, Nat.add_assoc, true_and, and_true, decide_true, decide_false, Bool.and_true, Bool.true_and, Bool.and_false, Bool.false_and, Bool.not_true, Bool.not_false, Bool.false_eq_true, Nat.lt_irrefl, Nat.not_lt_zero, l_0, l_1, l_2, l_3, l_4, l_5, l_6, l_7, l_8, l_9, l_10, l_11, l_12, l_13, l_14, l_15, l_16, l_17, l_18, l_19, l_20, l_21, l_22, l_23, l_24, l_25, l_26, l_27, l_28, l_29, l_30, l_31, l_32, l_38, l_40, l_41, l_42, l_43, l_45, l_48, l_54, l_56, l_57, l_59, l_60, l_61, l_63, l_68, l_76, l_96, l_97, l_99, l_100, l_101, l_102, l_103, l_104, l_105, l_106, l_108, l_122, l_124, l_126, l_132, l_255, l_1000, l_1100, l_1134, l_1135, l_1148, l_1154, l_1188, l_1202, l_9999]
      exact ih _ ⟨by rw [e]; exact h1, hU⟩
    · have e : p_drN R cd S w (k + 1) = up (p_drN R cd S w k) (2 + k) (p_dried R cd k (p_drN R cd S w k (2 + k)) w) := by
        show p_dr R cd (p_drN R cd S w k) k w = _
        unfold p_dr
        rw [if_neg q]
      simp (disch := omega) only [fX5_passes_b69, t_cloths hR1, e1, b2, q, hw, wp_bd, gd_true, gd_pos, bd_some, lt_eq, on_some, on_none, if_pos, if_neg, ne_eq, n32_add, n32_mul, n32_in, n32_cl, n32_lt, n32_le, n32_inj, n32_m1_lt, n32_m1_le, n32_lt_m1, n32_le_m1, n32_eq_m1, n32_m1_eq, not_true_eq_false, not_false_eq_true, ite_true, ite_false, Nat.add_assoc, true_and, and_true, decide_true, decide_false, Bool.and_true, Bool.true_and, Bool.and_false, Bool.false_and, Bool.not_true, Bool.not_false, Bool.false_eq_true, Nat.lt_irrefl, Nat.not_lt_zero, l_0, l_1, l_2, l_3, l_4, l_5, l_6, l_7, l_8, l_9, l_10, l_11, l_12, l_13, l_14, l_15, l_16, l_17, l_18, l_19, l_20, l_21, l_22, l_23, l_24, l_25, l_26, l_27, l_28, l_29, l_30, l_31, l_32, l_38, l_40, l_41, l_42, l_43, l_45, l_48, l_54, l_56, l_57, l_59, l_60, l_61, l_63, l_68, l_76, l_96, l_97, l_99, l_100, l_101, l_102, l_103, l_104, l_105, l_106, l_108, l_122, l_124, l_126, l_132, l_255, l_1000, l_1100, l_1134, l_1135, l_1148, l_1154, l_1188, l_1202, l_9999]
      refine wp_mono (t_driedOf hR1 hE1 (by omega) a3.1) fun r ⟨b1, b2⟩ => ?_
      obtain ⟨u, P2⟩ := r
      dsimp only at b1 b2 ⊢
      subst b1
      have hd := p_dried_le R cd k (p_drN R cd S w k (2 + k)) w
      exact ih _ ⟨by rw [e]; exact (tS.fr h1 b2 (by simp [ww])).up (by omega), (hU.fr b2).put⟩
  · intro n P1 ⟨h1, hU⟩
    have hR1 := hU.tR hR
    have ok1 := ok.drN (cd := cd) (w := w) (R 0) h6
    have hw := h1.1 0 (by omega)
    have h0 := ok1.1
    simp (disch := omega) only [fX5_passes_b69, t_cloths hR1, hw, wp_some, gd_true, gd_pos, bd_some, lt_eq, on_some, on_none, if_pos, if_neg, ne_eq, n32_add, n32_mul, n32_in, n32_cl, n32_lt, n32_le, n32_inj, n32_m1_lt, n32_m1_le, n32_lt_m1, n32_le_m1, n32_eq_m1, n32_m1_eq, not_true_eq_false, not_false_eq_true, ite_true, ite_false, Nat.add_assoc, true_and, and_true, decide_true, decide_false, Bool.and_true, Bool.true_and, Bool.and_false, Bool.false_and, Bool.not_true, Bool.not_false, Bool.false_eq_true, Nat.lt_irrefl, Nat.not_lt_zero, l_0, l_1, l_2, l_3, l_4, l_5, l_6, l_7, l_8, l_9, l_10, l_11, l_12, l_13, l_14, l_15, l_16, l_17, l_18, l_19, l_20, l_21, l_22, l_23, l_24, l_25, l_26, l_27, l_28, l_29, l_30, l_31, l_32, l_38, l_40, l_41, l_42, l_43, l_45, l_48, l_54, l_56, l_57, l_59, l_60, l_61, l_63, l_68, l_76, l_96, l_97, l_99, l_100, l_101, l_102, l_103, l_104, l_105, l_106, l_108, l_122, l_124, l_126, l_132, l_255, l_1000, l_1100, l_1134, l_1135, l_1148, l_1154, l_1188, l_1202, l_9999]
    exact ⟨h1.up (by omega), hU.put⟩
theorem p_plN_le {R S : Nat → Nat} {w : Nat} {cp : Option (List (Nat × Nat))} : ∀ k, (p_plN R cp S w k).2 ≤ k := by
  intro k
  induction k with
  | zero => exact Nat.le_refl _
  | succ k ih =>
    unfold p_plN
    dsimp only
    split
    · omega
    · dsimp only
      split <;> omega
theorem t_pass20 {m b w h : Nat} {P : mm_P} {R S : Nat → Nat} {cp cd : Option (List (Nat × Nat))} (hR : tR m P R) (h6 : R 0 ≤ 6) (hE : tE m P 6 cp) (hE7 : tE m P 7 cd) (hS : tS m P b S) (ok : okS R h S) (hh : h < 1000000) (hb : b + 28 ≤ 1242) : wp (fX5_passes_b20 m mm_NF (n32 b) (n32 w) (n32 0) (n32 0) P) (fun (r : Int32 × mm_P) => tS m r.2 b (up (p_drN R cd (p_plN R cp S w (R 0)).1 w (R 0)) 0 (p_drN R cd (p_plN R cp S w (R 0)).1 w (R 0) 0 + 1)) ∧ r.1 = n32 (p_plN R cp S w (R 0)).2 ∧ tU m P b r.2) := by
  refine wp_loop0 (σ := Int32 × mm_P) (β := Int32 × mm_P) (L := fun n k s => fX5_passes_b20 m n (n32 b) (n32 w) s.1 (n32 k) s.2) (fun k (s : Int32 × mm_P) => s.1 = n32 (p_plN R cp S w k).2 ∧ tS m s.2 b (p_plN R cp S w k).1 ∧ tU m P b s.2) (s := (n32 0, P)) (R 0) (by omega) ⟨rfl, hS, tU.refl m P b⟩ ?_ ?_
  · intro n k s hk ⟨hn, h1, hU⟩ ih
    obtain ⟨u, P1⟩ := s
    dsimp only at hn h1 hU ⊢
    subst hn
    have hR1 := hU.tR hR
    have hE1 := hU.tE hE
    have ok1 := ok.plN (cp := cp) (w := w) h6 k (by omega)
    obtain ⟨a1, a2, a3, a4, a5⟩ := ok1
    have e1 := t_isHung h1 hb (show k < 6 by omega)
    have a3 := a3 k (by omega)
    have hle := p_plN_le (R := R) (S := S) (w := w) (cp := cp) k
    by_cases q : (p_plN R cp S w k).1 (14 + k) = 0
    · have e : p_plN R cp S w (k + 1) = p_plN R cp S w k := if_pos q
      rw [q] at e1
      simp (disch := omega) only [fX5_passes_b20, t_cloths hR1, e1, b2, gd_true, gd_pos, bd_some, lt_eq, on_some, on_none, if_pos, if_neg, ne_eq, n32_add, n32_mul, n32_in, n32_cl, n32_lt, n32_le, n32_inj, n32_m1_lt, n32_m1_le, n32_lt_m1, n32_le_m1, n32_eq_m1, n32_m1_eq, not_true_eq_false, not_false_eq_true, ite_true, ite_false, Nat.add_assoc, true_and, and_true, decide_true, decide_false, Bool.and_true, Bool.true_and, Bool.and_false, Bool.false_and, Bool.not_true, Bool.not_false, Bool.false_eq_true, Nat.lt_irrefl, Nat.not_lt_zero, l_0, l_1, l_2, l_3, l_4, l_5, l_6, l_7, l_8, l_9, l_10, l_11, l_12, l_13, l_14, l_15, l_16, l_17, l_18, l_19, l_20, l_21, l_22, l_23, l_24, l_25, l_26, l_27, l_28, l_29, l_30, l_31, l_32, l_38, l_40, l_41, l_42, l_43, l_45, l_48, l_54, l_56, l_57, l_59, l_60, l_61, l_63, l_68, l_76, l_96, l_97, l_99, l_100, l_101, l_102, l_103, l_104, l_105, l_106, l_108, l_122, l_124, l_126, l_132, l_255, l_1000, l_1100, l_1134, l_1135, l_1148, l_1154, l_1188, l_1202, l_9999]
      exact ih (n32 (p_plN R cp S w k).2, P1) ⟨by rw [e], by rw [e]; exact h1, hU⟩
    · have e : p_plN R cp S w (k + 1) = ((p_pl R cp (p_plN R cp S w k).1 k w).1, (p_plN R cp S w k).2 + if (p_pl R cp (p_plN R cp S w k).1 k w).2 then 1 else 0) := if_neg q
      simp (disch := omega) only [fX5_passes_b20, t_cloths hR1, e1, b2, q, wp_bd, gd_true, gd_pos, bd_some, lt_eq, on_some, on_none, if_pos, if_neg, ne_eq, n32_add, n32_mul, n32_in, n32_cl, n32_lt, n32_le, n32_inj, n32_m1_lt, n32_m1_le, n32_lt_m1, n32_le_m1, n32_eq_m1, n32_m1_eq, not_true_eq_false, not_false_eq_true, ite_true, ite_false, Nat.add_assoc, true_and, and_true, decide_true, decide_false, Bool.and_true, Bool.true_and, Bool.and_false, Bool.false_and, Bool.not_true, Bool.not_false, Bool.false_eq_true, Nat.lt_irrefl, Nat.not_lt_zero, l_0, l_1, l_2, l_3, l_4, l_5, l_6, l_7, l_8, l_9, l_10, l_11, l_12, l_13, l_14, l_15, l_16, l_17, l_18, l_19, l_20, l_21, l_22, l_23, l_24, l_25, l_26, l_27, l_28, l_29, l_30, l_31, l_32, l_38, l_40, l_41, l_42, l_43, l_45, l_48, l_54, l_56, l_57, l_59, l_60, l_61, l_63, l_68, l_76, l_96, l_97, l_99, l_100, l_101, l_102, l_103, l_104, l_105, l_106, l_108, l_122, l_124, l_126, l_132, l_255, l_1000, l_1100, l_1134, l_1135, l_1148, l_1154, l_1188, l_1202, l_9999]
      refine wp_mono (t_pulls hR1 hE1 h1 hb (by omega) a3.2.2 a3.2.1) fun r ⟨b1, b3, b4⟩ => ?_
      obtain ⟨u, P2⟩ := r
      dsimp only at b1 b3 b4 ⊢
      subst b3
      cases qf : (p_pl R cp (p_plN R cp S w k).1 k w).2 with
      | true =>
        simp (disch := omega) only [b2, gd_true, gd_pos, bd_some, lt_eq, on_some, on_none, if_pos, if_neg, ne_eq, n32_add, n32_mul, n32_in, n32_cl, n32_lt, n32_le, n32_inj, n32_m1_lt, n32_m1_le, n32_lt_m1, n32_le_m1, n32_eq_m1, n32_m1_eq, not_true_eq_false, not_false_eq_true, ite_true, ite_false, Nat.add_assoc, true_and, and_true, decide_true, decide_false, Bool.and_true, Bool.true_and, Bool.and_false, Bool.false_and, Bool.not_true, Bool.not_false, Bool.false_eq_true, Nat.lt_irrefl, Nat.not_lt_zero, l_0, l_1, l_2, l_3, l_4, l_5, l_6, l_7, l_8, l_9, l_10, l_11, l_12, l_13, l_14, l_15, l_16, l_17, l_18, l_19, l_20, l_21, l_22, l_23, l_24, l_25, l_26, l_27, l_28, l_29, l_30, l_31, l_32, l_38, l_40, l_41, l_42, l_43, l_45, l_48, l_54, l_56, l_57, l_59, l_60, l_61, l_63, l_68, l_76, l_96, l_97, l_99, l_100, l_101, l_102, l_103, l_104, l_105, l_106, l_108, l_122, l_124, l_126, l_132, l_255, l_1000, l_1100, l_1134, l_1135, l_1148, l_1154, l_1188, l_1202, l_9999]
        exact ih (n32 ((p_plN R cp S w k).2 + 1), P2) ⟨by rw [e, qf]; rfl, by rw [e]; exact b1, hU.trans b4⟩
      | false =>
        simp (disch := omega) only [b2, gd_true, gd_pos, bd_some, lt_eq, on_some, on_none, if_pos, if_neg, ne_eq, n32_add, n32_mul, n32_in, n32_cl, n32_lt, n32_le, n32_inj, n32_m1_lt, n32_m1_le, n32_lt_m1, n32_le_m1, n32_eq_m1, n32_m1_eq, not_true_eq_false, not_false_eq_true, ite_true, ite_false, Nat.add_assoc, true_and, and_true, decide_true, decide_false, Bool.and_true, Bool.true_and, Bool.and_false, Bool.false_and, Bool.not_true, Bool.not_false, Bool.false_eq_true, Nat.lt_irrefl, Nat.not_lt_zero, l_0, l_1, l_2, l_3, l_4, l_5, l_6, l_7, l_8, l_9, l_10, l_11, l_12, l_13, l_14, l_15, l_16, l_17, l_18, l_19, l_20, l_21, l_22, l_23, l_24, l_25, l_26, l_27, l_28, l_29, l_30, l_31, l_32, l_38, l_40, l_41, l_42, l_43, l_45, l_48, l_54, l_56, l_57, l_59, l_60, l_61, l_63, l_68, l_76, l_96, l_97, l_99, l_100, l_101, l_102, l_103, l_104, l_105, l_106, l_108, l_122, l_124, l_126, l_132, l_255, l_1000, l_1100, l_1134, l_1135, l_1148, l_1154, l_1188, l_1202, l_9999]
        exact ih (n32 ((p_plN R cp S w k).2 + 0), P2) ⟨by rw [e, qf]; rfl, by rw [e]; exact b1, hU.trans b4⟩
  · intro n s ⟨hn, h1, hU⟩
    obtain ⟨u, P1⟩ := s
    dsimp only at hn h1 hU ⊢
    subst hn
    have ok1 := ok.plN (cp := cp) (w := w) h6 (R 0) (Nat.le_refl _)
    simp (disch := omega) only [fX5_passes_b20, t_cloths (hU.tR hR), gd_true, gd_pos, bd_some, lt_eq, on_some, on_none, if_pos, if_neg, ne_eq, n32_add, n32_mul, n32_in, n32_cl, n32_lt, n32_le, n32_inj, n32_m1_lt, n32_m1_le, n32_lt_m1, n32_le_m1, n32_eq_m1, n32_m1_eq, not_true_eq_false, not_false_eq_true, ite_true, ite_false, Nat.add_assoc, true_and, and_true, decide_true, decide_false, Bool.and_true, Bool.true_and, Bool.and_false, Bool.false_and, Bool.not_true, Bool.not_false, Bool.false_eq_true, Nat.lt_irrefl, Nat.not_lt_zero, l_0, l_1, l_2, l_3, l_4, l_5, l_6, l_7, l_8, l_9, l_10, l_11, l_12, l_13, l_14, l_15, l_16, l_17, l_18, l_19, l_20, l_21, l_22, l_23, l_24, l_25, l_26, l_27, l_28, l_29, l_30, l_31, l_32, l_38, l_40, l_41, l_42, l_43, l_45, l_48, l_54, l_56, l_57, l_59, l_60, l_61, l_63, l_68, l_76, l_96, l_97, l_99, l_100, l_101, l_102, l_103, l_104, l_105, l_106, l_108, l_122, l_124, l_126, l_132, l_255, l_1000, l_1100, l_1134, l_1135, l_1148, l_1154, l_1188, l_1202, l_9999]
    refine wp_mono (t_pass69 (hU.tR hR) h6 (hU.tE hE7) h1 ok1 hh hb) fun r ⟨b1, b3, b4⟩ => ?_
    exact ⟨b1, b3, hU.trans b4⟩
theorem t_passes {m b g h : Nat} {P : mm_P} {R S : Nat → Nat} {cp cd : Option (List (Nat × Nat))} (hR : tR m P R) (okr : okR R) (hE : tE m P 6 cp) (hE7 : tE m P 7 cd) (hS : tS m P b S) (ok : okS R h S) (hh : h < 1000000) (hb : b + 28 ≤ 1242) (hg : g < 2) : wp (fX5_passes m (n32 b) (n32 g) P) (fun r => tS m r.2 b (p_pass R cp cd S (if g = 0 then 0 else 3)).1 ∧ r.1 = n32 (p_pass R cp cd S (if g = 0 then 0 else 3)).2 ∧ tU m P b r.2) := by
  obtain ⟨h6, -, r1, r2, -, -, rb⟩ := okr
  have h0 := ok.1
  have hS0 := hS.1 0 (by omega)
  have g1 : mm_in (n32 b + 0) 1242 := by
    rw [show (0 : Int32) = n32 0 from rfl, n32_add, n32_in (by omega)]
    omega
  have g2 : (n32 b + 0).toNatClampNeg = b + 0 := by
    rw [show (0 : Int32) = n32 0 from rfl, n32_add, n32_cl (by omega)]
  unfold fX5_passes
  rw [gd_pos g1, g2, hS0, t_windOf hR r1 r2 (by omega) hg, bd_some]
  exact t_pass20 hR h6 hE hE7 hS ok hh hb
