/-! QUESTIONS, one by one: what both answer. cloth, peg, laws, free, count. -/
set_option maxRecDepth 100000
theorem ix {x : Int32} {n : Nat} (hn : n < 2147483648) (h : ¬ (x < n32 0 ∨ n32 n ≤ x)) : ∃ c, c < n ∧ x = n32 c := by
  have h1 : n32 0 ≤ x := Int32.not_lt.mp (fun q => h (Or.inl q))
  have h2 : x < n32 n := Int32.not_le.mp (fun q => h (Or.inr q))
  have e : n32 x.toNatClampNeg = x := Int32.ofNat_toNatClampNeg x h1
  have hb := Int32.toNatClampNeg_lt x
  refine ⟨x.toNatClampNeg, ?_, e.symm⟩
  rw [← e] at h2
  exact (n32_lt hb hn).mp h2
/-- the component at px with its state at st, in plain words -/
def cT (K : mm_K) (P : mm_P) (N px st : Nat) (R : Nat → Nat) (cp cd : Option (List (Nat × Nat))) (h : Nat) (S : Nat → Nat) : Prop := cP K P N px R cp cd ∧ okR R ∧ px < N ∧ gR P 132 px = some st ∧ K.1 st = 4 ∧ cS P st S ∧ okS R h S ∧ h < 1000000
/-- the reference at m with its state at base b -/
def tT (m : Nat) (P : mm_P) (b : Nat) (R : Nat → Nat) (cp cd : Option (List (Nat × Nat))) (h : Nat) (S : Nat → Nat) : Prop := tR m P R ∧ okR R ∧ tE m P 6 cp ∧ tE m P 7 cd ∧ tS m P b S ∧ okS R h S ∧ h < 1000000 ∧ b + 28 ≤ 1242
theorem tT.fr {m b h : Nat} {P P' : mm_P} {R S : Nat → Nat} {cp cd : Option (List (Nat × Nat))} {W : Nat → Nat → Prop} (t : tT m P b R cp cd h S) (hf : fr W P P') (hW : ∀ c, c ∈ [650, 651, 652, 662] → ¬ W c m) : tT m P' b R cp cd h S := by
  obtain ⟨h1, h2, h3, h4, h5, h6⟩ := t
  have q0 := hW 650 (by decide)
  have q1 := hW 651 (by decide)
  have q2 := hW 652 (by decide)
  exact ⟨h1.fr hf q0, h2, h3.fr hf q0 q1 q2, h4.fr hf q0 q1 q2, h5.fr hf (hW 662 (by decide)), h6⟩
theorem tT.thr {m b h : Nat} {P : mm_P} {R S : Nat → Nat} {cp cd : Option (List (Nat × Nat))} {v : Int32} (t : tT m P b R cp cd h S) : tT m (sI P 640 m v) b R cp cd h S := t.fr (W := ww m [640]) (fr_sI (fr_refl _ _) ⟨rfl, by decide⟩) (by intro c hc; simp at hc; simp [ww]; omega)
def p_cloth (R : Nat → Nat) (cp : Option (List (Nat × Nat))) (S : Nat → Nat) (c : Nat) (w : Int32) : Int32 :=
  if w = n32 0 then n32 (p_kd R c) else if w = n32 1 then n32 (S (2 + c)) else if w = n32 2 then n32 (S (8 + c)) else if w = n32 3 then n32 (S (14 + c)) else if w = n32 4 then b2 (p_law R S c) else if w = n32 5 then b2 (decide (pc (S (14 + c)) = 1)) else if w = n32 6 then n32 (p_roomOf R S c) else if w = n32 7 then n32 (p_pull R cp c (S (2 + c)) (p_wind R (S 0))) else -n32 1
theorem b2_if {α : Type} {c : Bool} {g : Int32 → α} : (if b2 c = n32 0 then g (n32 0) else g (n32 1)) = g (b2 c) := by
  cases c with
  | true => rfl
  | false => rfl
section C
variable {K : mm_K} {P : mm_P} {N px st h : Nat} {R S : Nat → Nat} {cp cd : Option (List (Nat × Nat))}
theorem c_cloth (t : cT K P N px st R cp cd h S) (x w : Int32) : wp (fX1_cloth K px x w P) (fun r => r.1 = (if x < n32 0 ∨ n32 (R 0) ≤ x then -n32 1 else p_cloth R cp S x.toNatClampNeg w) ∧ fr (cf px) P r.2) := by
  obtain ⟨hP, okr, hx, hst, hk, hS, ok, hh⟩ := t
  have h6 := okr.1
  have h0 := ok.1
  unfold fX1_cloth
  simp only [lt_eq, l_0, l_1, l_2, l_3, l_4, l_5, l_6, l_7, l_8, l_9, l_10, l_11, l_12, l_13, l_14, l_15, l_16, l_17, l_18, l_19, l_20, l_21, l_22, l_23, l_24, l_25, l_26, l_27, l_28, l_29, l_30, l_31, l_32, l_38, l_40, l_41, l_42, l_43, l_45, l_48, l_54, l_56, l_57, l_59, l_60, l_61, l_63, l_68, l_76, l_96, l_97, l_99, l_100, l_101, l_102, l_103, l_104, l_105, l_106, l_108, l_122, l_124, l_126, l_132, l_255, l_1000, l_1100, l_1134, l_1135, l_1148, l_1154, l_1188, l_1202, l_9999]
  rw [c_isCloth hP h6, bd_some]
  by_cases q : x < n32 0 ∨ n32 (R 0) ≤ x
  · rw [if_pos q, if_pos q]
    exact ⟨_, rfl, rfl, fr_refl _ _⟩
  · rw [if_neg q, if_neg q]
    obtain ⟨c, hc, rfl⟩ := ix (by omega) q
    obtain ⟨o1, o2, o3⟩ := ok.2.2.1 c (by omega)
    have hb := c_by hS (show c < 6 by omega) o3
    obtain ⟨o, g1, g2⟩ := c_cloth2 hP h6 hc
    have hw := hS.2.2.1 c (by omega)
    have hs := hS.2.2.2.1 c (by omega)
    have ec : (n32 c).toNatClampNeg = c := n32_cl (by omega)
    rw [if_pos (by decide), hst, bd_some, gd_pos hk, hb, bd_some]
    simp only [ec]
    unfold p_cloth
    by_cases q0 : w = n32 0
    · subst q0
      rw [if_pos rfl, g1, bd_some, g2.kd, bd_some]
      exact ⟨_, rfl, rfl, fr_refl _ _⟩
    rw [if_neg q0, if_neg q0]
    by_cases q1 : w = n32 1
    · subst q1
      simp (disch := omega) only [gd_pos hk, hw, gA_sA_eq, gA_sA_ne, gI_sI_eq, gI_sI_ne, gA_sI, gI_sA, gR_sA, gR_sI, gL_sA, gL_sI, gB_sA, gB_sI, gJ_sA, gJ_sI, wp_some, wp_gd, wp_bd, wp_lt, wp_ite, gd_true, gd_pos, bd_some, lt_eq, on_some, on_none, if_pos, if_neg, ne_eq, n32_add, n32_mul, n32_in, n32_cl, n32_lt, n32_le, n32_inj, n32_m1_lt, n32_m1_le, n32_lt_m1, n32_le_m1, n32_eq_m1, n32_m1_eq, not_true_eq_false, not_false_eq_true, ite_true, ite_false, Nat.add_assoc, true_and, and_true, decide_true, decide_false, Bool.and_true, Bool.true_and, Bool.and_false, Bool.false_and, Bool.not_true, Bool.not_false, Bool.false_eq_true, Nat.lt_irrefl, Nat.not_lt_zero, l_0, l_1, l_2, l_3, l_4, l_5, l_6, l_7, l_8, l_9, l_10, l_11, l_12, l_13, l_14, l_15, l_16, l_17, l_18, l_19, l_20, l_21, l_22, l_23, l_24, l_25, l_26, l_27, l_28, l_29, l_30, l_31, l_32, l_38, l_40, l_41, l_42, l_43, l_45, l_48, l_54, l_56, l_57, l_59, l_60, l_61, l_63, l_68, l_76, l_96, l_97, l_99, l_100, l_101, l_102, l_103, l_104, l_105, l_106, l_108, l_122, l_124, l_126, l_132, l_255, l_1000, l_1100, l_1134, l_1135, l_1148, l_1154, l_1188, l_1202, l_9999]
      exact fr_refl _ _
    rw [if_neg q1, if_neg q1]
    by_cases q2 : w = n32 2
    · subst q2
      simp (disch := omega) only [gd_pos hk, hs, gA_sA_eq, gA_sA_ne, gI_sI_eq, gI_sI_ne, gA_sI, gI_sA, gR_sA, gR_sI, gL_sA, gL_sI, gB_sA, gB_sI, gJ_sA, gJ_sI, wp_some, wp_gd, wp_bd, wp_lt, wp_ite, gd_true, gd_pos, bd_some, lt_eq, on_some, on_none, if_pos, if_neg, ne_eq, n32_add, n32_mul, n32_in, n32_cl, n32_lt, n32_le, n32_inj, n32_m1_lt, n32_m1_le, n32_lt_m1, n32_le_m1, n32_eq_m1, n32_m1_eq, not_true_eq_false, not_false_eq_true, ite_true, ite_false, Nat.add_assoc, true_and, and_true, decide_true, decide_false, Bool.and_true, Bool.true_and, Bool.and_false, Bool.false_and, Bool.not_true, Bool.not_false, Bool.false_eq_true, Nat.lt_irrefl, Nat.not_lt_zero, l_0, l_1, l_2, l_3, l_4, l_5, l_6, l_7, l_8, l_9, l_10, l_11, l_12, l_13, l_14, l_15, l_16, l_17, l_18, l_19, l_20, l_21, l_22, l_23, l_24, l_25, l_26, l_27, l_28, l_29, l_30, l_31, l_32, l_38, l_40, l_41, l_42, l_43, l_45, l_48, l_54, l_56, l_57, l_59, l_60, l_61, l_63, l_68, l_76, l_96, l_97, l_99, l_100, l_101, l_102, l_103, l_104, l_105, l_106, l_108, l_122, l_124, l_126, l_132, l_255, l_1000, l_1100, l_1134, l_1135, l_1148, l_1154, l_1188, l_1202, l_9999]
      exact fr_refl _ _
    rw [if_neg q2, if_neg q2]
    by_cases q3 : w = n32 3
    · subst q3
      rw [if_pos rfl]
      exact ⟨_, rfl, rfl, fr_refl _ _⟩
    rw [if_neg q3, if_neg q3]
    by_cases q4 : w = n32 4
    · subst q4
      rw [if_pos rfl, bd_some, c_isLaw hP okr hS ok hk hc, bd_some]
      exact ⟨_, b2_if (g := fun v => some (v, P)), rfl, fr_refl _ _⟩
    rw [if_neg q4, if_neg q4]
    by_cases q5 : w = n32 5
    · subst q5
      rw [if_pos rfl, bd_some, c_isTurned h6 hS ok hk hc, bd_some]
      exact ⟨_, b2_if (g := fun v => some (v, P)), rfl, fr_refl _ _⟩
    rw [if_neg q5, if_neg q5]
    by_cases q6 : w = n32 6
    · subst q6
      have e1 := pc_8 o3
      have e0 := pc_0 (x := S (14 + c)) (by omega)
      have e2 : (if pc (S (14 + c)) = 0 then 0 else p_room R c (pc (S (14 + c)))) = p_roomOf R S c := by
        unfold p_roomOf
        by_cases q : S (14 + c) = 0
        · rw [if_pos q, if_pos (e0.mpr q)]
        · rw [if_neg q, if_neg (fun z => q (e0.mp z))]
      rw [if_pos rfl, pc_count (by omega), bd_some, c_roomBy hP okr hc (by omega), bd_some, e2]
      exact ⟨_, rfl, rfl, fr_refl _ _⟩
    rw [if_neg q6, if_neg q6]
    by_cases q7 : w = n32 7
    · subst q7
      obtain ⟨ro, r1, r2, r3⟩ := c_wind (k := S 0) hP okr (by omega)
      simp (disch := omega) only [gd_pos hk, gd_pos r2, hw, r1, hS.1, r3, wp_bd, gd_true, gd_pos, bd_some, lt_eq, on_some, on_none, if_pos, if_neg, ne_eq, n32_add, n32_mul, n32_in, n32_cl, n32_lt, n32_le, n32_inj, n32_m1_lt, n32_m1_le, n32_lt_m1, n32_le_m1, n32_eq_m1, n32_m1_eq, not_true_eq_false, not_false_eq_true, ite_true, ite_false, Nat.add_assoc, true_and, and_true, decide_true, decide_false, Bool.and_true, Bool.true_and, Bool.and_false, Bool.false_and, Bool.not_true, Bool.not_false, Bool.false_eq_true, Nat.lt_irrefl, Nat.not_lt_zero, l_0, l_1, l_2, l_3, l_4, l_5, l_6, l_7, l_8, l_9, l_10, l_11, l_12, l_13, l_14, l_15, l_16, l_17, l_18, l_19, l_20, l_21, l_22, l_23, l_24, l_25, l_26, l_27, l_28, l_29, l_30, l_31, l_32, l_38, l_40, l_41, l_42, l_43, l_45, l_48, l_54, l_56, l_57, l_59, l_60, l_61, l_63, l_68, l_76, l_96, l_97, l_99, l_100, l_101, l_102, l_103, l_104, l_105, l_106, l_108, l_122, l_124, l_126, l_132, l_255, l_1000, l_1100, l_1134, l_1135, l_1148, l_1154, l_1188, l_1202, l_9999]
      refine wp_mono (c_pullOf hP okr hx hc) fun r ⟨e, hf⟩ => ?_
      exact ⟨_, rfl, e, hf⟩
    rw [if_neg q7, if_neg q7]
    exact ⟨_, rfl, rfl, fr_refl _ _⟩
end C
theorem t_cloth {m h : Nat} {P : mm_P} {R S : Nat → Nat} {cp cd : Option (List (Nat × Nat))} (t : tT m P 0 R cp cd h S) (x w : Int32) : wp (fX5_cloth m x w P) (fun r => r.1 = (if x < n32 0 ∨ n32 (R 0) ≤ x then -n32 1 else p_cloth R cp S x.toNatClampNeg w) ∧ fr (ww m [640, 660, 661]) P r.2) := by
  have t1 := t.thr (v := n32 0)
  obtain ⟨hR, okr, hE, hE7, hS, ok, hh, -⟩ := t1
  have h6 := okr.1
  have h0 := ok.1
  have fz : fr (ww m [640, 660, 661]) P (sI P 640 m (n32 0)) := fr_sI (fr_refl _ _) ⟨rfl, by decide⟩
  unfold fX5_cloth
  simp only [lt_eq, l_0, l_1, l_2, l_3, l_4, l_5, l_6, l_7, l_8, l_9, l_10, l_11, l_12, l_13, l_14, l_15, l_16, l_17, l_18, l_19, l_20, l_21, l_22, l_23, l_24, l_25, l_26, l_27, l_28, l_29, l_30, l_31, l_32, l_38, l_40, l_41, l_42, l_43, l_45, l_48, l_54, l_56, l_57, l_59, l_60, l_61, l_63, l_68, l_76, l_96, l_97, l_99, l_100, l_101, l_102, l_103, l_104, l_105, l_106, l_108, l_122, l_124, l_126, l_132, l_255, l_1000, l_1100, l_1134, l_1135, l_1148, l_1154, l_1188, l_1202, l_9999]
  rw [t_isCloth hR, bd_some]
  by_cases q : x < n32 0 ∨ n32 (R 0) ≤ x
  · rw [if_pos q, if_pos q, if_pos rfl]
    exact ⟨_, rfl, rfl, fz⟩
  · rw [if_neg q, if_neg q, if_neg (by decide)]
    obtain ⟨c, hc, rfl⟩ := ix (by omega) q
    obtain ⟨o1, o2, o3⟩ := ok.2.2.1 c (by omega)
    have hw := hS.1 (2 + c) (by omega)
    have hs := hS.1 (8 + c) (by omega)
    have hb := hS.1 (14 + c) (by omega)
    rw [Nat.zero_add] at hw hs hb
    have eL := t_isLaw (c := c) hR hS (by decide) (by omega)
    have eT := t_isTurned (c := c) hS (by decide) (by omega)
    have eH := t_isHung (c := c) hS (by decide) (by omega)
    have ec : (n32 c).toNatClampNeg = c := n32_cl (by omega)
    rw [t_within, bd_some]
    simp only [ec]
    unfold p_cloth
    by_cases qw : w < n32 0 ∨ n32 7 < w
    · have ne : ∀ k, k < 8 → w ≠ n32 k := fun k hk e => by
        subst e
        rcases qw with z | z
        · rw [n32_lt (by omega) (by decide)] at z; omega
        · rw [n32_lt (by decide) (by omega)] at z; omega
      rw [if_pos qw, if_neg (by decide), if_neg (ne 0 (by decide)), if_neg (ne 1 (by decide)), if_neg (ne 2 (by decide)), if_neg (ne 3 (by decide)), if_neg (ne 4 (by decide)), if_neg (ne 5 (by decide)), if_neg (ne 6 (by decide)), if_neg (ne 7 (by decide))]
      exact ⟨_, rfl, rfl, fz⟩
    rw [if_neg qw, if_pos (by decide)]
    by_cases q0 : w = n32 0
    · subst q0
      rw [if_pos rfl, if_pos rfl, t_clothOf hR (by omega) (by decide), bd_some]
      exact ⟨_, rfl, rfl, fz⟩
    rw [if_neg q0, if_neg q0]
    by_cases q1 : w = n32 1
    · subst q1
      simp (disch := omega) only [hw, gA_sA_eq, gA_sA_ne, gI_sI_eq, gI_sI_ne, gA_sI, gI_sA, gR_sA, gR_sI, gL_sA, gL_sI, gB_sA, gB_sI, gJ_sA, gJ_sI, wp_some, wp_gd, wp_bd, wp_lt, wp_ite, gd_true, gd_pos, bd_some, lt_eq, on_some, on_none, if_pos, if_neg, ne_eq, n32_add, n32_mul, n32_in, n32_cl, n32_lt, n32_le, n32_inj, n32_m1_lt, n32_m1_le, n32_lt_m1, n32_le_m1, n32_eq_m1, n32_m1_eq, not_true_eq_false, not_false_eq_true, ite_true, ite_false, Nat.add_assoc, true_and, and_true, decide_true, decide_false, Bool.and_true, Bool.true_and, Bool.and_false, Bool.false_and, Bool.not_true, Bool.not_false, Bool.false_eq_true, Nat.lt_irrefl, Nat.not_lt_zero, l_0, l_1, l_2, l_3, l_4, l_5, l_6, l_7, l_8, l_9, l_10, l_11, l_12, l_13, l_14, l_15, l_16, l_17, l_18, l_19, l_20, l_21, l_22, l_23, l_24, l_25, l_26, l_27, l_28, l_29, l_30, l_31, l_32, l_38, l_40, l_41, l_42, l_43, l_45, l_48, l_54, l_56, l_57, l_59, l_60, l_61, l_63, l_68, l_76, l_96, l_97, l_99, l_100, l_101, l_102, l_103, l_104, l_105, l_106, l_108, l_122, l_124, l_126, l_132, l_255, l_1000, l_1100, l_1134, l_1135, l_1148, l_1154, l_1188, l_1202, l_9999]
      exact fz
    rw [if_neg q1, if_neg q1]
    by_cases q2 : w = n32 2
    · subst q2
      simp (disch := omega) only [hs, gA_sA_eq, gA_sA_ne, gI_sI_eq, gI_sI_ne, gA_sI, gI_sA, gR_sA, gR_sI, gL_sA, gL_sI, gB_sA, gB_sI, gJ_sA, gJ_sI, wp_some, wp_gd, wp_bd, wp_lt, wp_ite, gd_true, gd_pos, bd_some, lt_eq, on_some, on_none, if_pos, if_neg, ne_eq, n32_add, n32_mul, n32_in, n32_cl, n32_lt, n32_le, n32_inj, n32_m1_lt, n32_m1_le, n32_lt_m1, n32_le_m1, n32_eq_m1, n32_m1_eq, not_true_eq_false, not_false_eq_true, ite_true, ite_false, Nat.add_assoc, true_and, and_true, decide_true, decide_false, Bool.and_true, Bool.true_and, Bool.and_false, Bool.false_and, Bool.not_true, Bool.not_false, Bool.false_eq_true, Nat.lt_irrefl, Nat.not_lt_zero, l_0, l_1, l_2, l_3, l_4, l_5, l_6, l_7, l_8, l_9, l_10, l_11, l_12, l_13, l_14, l_15, l_16, l_17, l_18, l_19, l_20, l_21, l_22, l_23, l_24, l_25, l_26, l_27, l_28, l_29, l_30, l_31, l_32, l_38, l_40, l_41, l_42, l_43, l_45, l_48, l_54, l_56, l_57, l_59, l_60, l_61, l_63, l_68, l_76, l_96, l_97, l_99, l_100, l_101, l_102, l_103, l_104, l_105, l_106, l_108, l_122, l_124, l_126, l_132, l_255, l_1000, l_1100, l_1134, l_1135, l_1148, l_1154, l_1188, l_1202, l_9999]
      exact fz
    rw [if_neg q2, if_neg q2]
    by_cases q3 : w = n32 3
    · subst q3
      simp (disch := omega) only [hb, gA_sA_eq, gA_sA_ne, gI_sI_eq, gI_sI_ne, gA_sI, gI_sA, gR_sA, gR_sI, gL_sA, gL_sI, gB_sA, gB_sI, gJ_sA, gJ_sI, wp_some, wp_gd, wp_bd, wp_lt, wp_ite, gd_true, gd_pos, bd_some, lt_eq, on_some, on_none, if_pos, if_neg, ne_eq, n32_add, n32_mul, n32_in, n32_cl, n32_lt, n32_le, n32_inj, n32_m1_lt, n32_m1_le, n32_lt_m1, n32_le_m1, n32_eq_m1, n32_m1_eq, not_true_eq_false, not_false_eq_true, ite_true, ite_false, Nat.add_assoc, true_and, and_true, decide_true, decide_false, Bool.and_true, Bool.true_and, Bool.and_false, Bool.false_and, Bool.not_true, Bool.not_false, Bool.false_eq_true, Nat.lt_irrefl, Nat.not_lt_zero, l_0, l_1, l_2, l_3, l_4, l_5, l_6, l_7, l_8, l_9, l_10, l_11, l_12, l_13, l_14, l_15, l_16, l_17, l_18, l_19, l_20, l_21, l_22, l_23, l_24, l_25, l_26, l_27, l_28, l_29, l_30, l_31, l_32, l_38, l_40, l_41, l_42, l_43, l_45, l_48, l_54, l_56, l_57, l_59, l_60, l_61, l_63, l_68, l_76, l_96, l_97, l_99, l_100, l_101, l_102, l_103, l_104, l_105, l_106, l_108, l_122, l_124, l_126, l_132, l_255, l_1000, l_1100, l_1134, l_1135, l_1148, l_1154, l_1188, l_1202, l_9999]
      exact fz
    rw [if_neg q3, if_neg q3]
    by_cases q4 : w = n32 4
    · subst q4
      rw [if_pos rfl, if_pos rfl, eL, bd_some]
      exact ⟨_, b2_if (g := fun v => some (v, sI P 640 m (n32 0))), rfl, fz⟩
    rw [if_neg q4, if_neg q4]
    by_cases q5 : w = n32 5
    · subst q5
      rw [if_pos rfl, if_pos rfl, eT, bd_some]
      exact ⟨_, b2_if (g := fun v => some (v, sI P 640 m (n32 0))), rfl, fz⟩
    rw [if_neg q5, if_neg q5]
    by_cases q6 : w = n32 6
    · subst q6
      have e1 := pc_8 o3
      rw [if_pos rfl, if_pos rfl, eH, bd_some]
      unfold p_roomOf
      by_cases q : S (14 + c) = 0
      · rw [q]
        exact ⟨_, rfl, rfl, fz⟩
      · have eB := t_bits (x := S (14 + c)) (by omega)
        simp (disch := omega) only [q, b2, hb, eB, t_roomBy hR, gA_sA_eq, gA_sA_ne, gI_sI_eq, gI_sI_ne, gA_sI, gI_sA, gR_sA, gR_sI, gL_sA, gL_sI, gB_sA, gB_sI, gJ_sA, gJ_sI, wp_some, wp_gd, wp_bd, wp_lt, wp_ite, gd_true, gd_pos, bd_some, lt_eq, on_some, on_none, if_pos, if_neg, ne_eq, n32_add, n32_mul, n32_in, n32_cl, n32_lt, n32_le, n32_inj, n32_m1_lt, n32_m1_le, n32_lt_m1, n32_le_m1, n32_eq_m1, n32_m1_eq, not_true_eq_false, not_false_eq_true, ite_true, ite_false, Nat.add_assoc, true_and, and_true, decide_true, decide_false, Bool.and_true, Bool.true_and, Bool.and_false, Bool.false_and, Bool.not_true, Bool.not_false, Bool.false_eq_true, Nat.lt_irrefl, Nat.not_lt_zero, l_0, l_1, l_2, l_3, l_4, l_5, l_6, l_7, l_8, l_9, l_10, l_11, l_12, l_13, l_14, l_15, l_16, l_17, l_18, l_19, l_20, l_21, l_22, l_23, l_24, l_25, l_26, l_27, l_28, l_29, l_30, l_31, l_32, l_38, l_40, l_41, l_42, l_43, l_45, l_48, l_54, l_56, l_57, l_59, l_60, l_61, l_63, l_68, l_76, l_96, l_97, l_99, l_100, l_101, l_102, l_103, l_104, l_105, l_106, l_108, l_122, l_124, l_126, l_132, l_255, l_1000, l_1100, l_1134, l_1135, l_1148, l_1154, l_1188, l_1202, l_9999]
        exact fz
    rw [if_neg q6, if_neg q6]
    have q7 : w = n32 7 := by
      obtain ⟨k, hk, rfl⟩ := ix (n := 8) (by decide) (x := w) (fun z => qw (by
        rcases z with z | z
        · exact Or.inl z
        · right
          rw [Int32.le_iff_toInt_le, n32_ti (by decide)] at z
          rw [Int32.lt_iff_toInt_lt, n32_ti (by decide)]
          omega))
      have : k = 7 := by
        have a0 : k ≠ 0 := fun e => q0 (by rw [e])
        have a1 : k ≠ 1 := fun e => q1 (by rw [e])
        have a2 : k ≠ 2 := fun e => q2 (by rw [e])
        have a3 : k ≠ 3 := fun e => q3 (by rw [e])
        have a4 : k ≠ 4 := fun e => q4 (by rw [e])
        have a5 : k ≠ 5 := fun e => q5 (by rw [e])
        have a6 : k ≠ 6 := fun e => q6 (by rw [e])
        omega
      rw [this]
    subst q7
    rw [if_pos rfl]
    have h00 := hS.1 0 (by decide)
    obtain ⟨-, -, r1, r2, -⟩ := okr
    have eW := t_windOf (k := S 0) (g := 0) hR r1 r2 (by omega) (by decide)
    rw [if_pos rfl, Nat.add_zero] at eW
    have g1 : mm_in (n32 2 + n32 c) 1242 := by rw [n32_add, n32_in (by omega)]; omega
    have g2 : (n32 2 + n32 c).toNatClampNeg = 2 + c := by rw [n32_add, n32_cl (by omega)]
    have g3 : mm_in (n32 0) 1242 := by decide
    have g4 : (n32 0).toNatClampNeg = 0 := rfl
    rw [gd_pos g1, gd_pos g3, g2, g4, hw, h00, eW, bd_some, wp_bd]
    refine wp_mono (t_pullOf hR hE (by omega)) fun r ⟨e, hf⟩ => ?_
    exact ⟨_, rfl, e, fz.trans (hf.mono (fun c a z => ⟨z.1, by have := z.2; simp at this; simp; omega⟩))⟩
