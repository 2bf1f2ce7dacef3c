/-! THE REFERENCE: expressions, what pulls, what dries; an hour. -/
set_option maxRecDepth 100000
/-- these codes of the owner m -/
def ww (m : Nat) (l : List Nat) (c a : Nat) : Prop := a = m ∧ c ∈ l
theorem tR.fr {m : Nat} {P P' : mm_P} {R : Nat → Nat} {W : Nat → Nat → Prop} (h : tR m P R) (hf : fr W P P') (hW : ¬ W 650 m) : tR m P' R := ⟨fun x h1 h2 h3 => ((hf 650 m hW).2.2.2.1 x).trans (h.1 x h1 h2 h3), h.2⟩
theorem tS.fr {m b : Nat} {P P' : mm_P} {S : Nat → Nat} {W : Nat → Nat → Prop} (h : tS m P b S) (hf : fr W P P') (hW : ¬ W 662 m) : tS m P' b S := ⟨fun x h1 => ((hf 662 m hW).2.2.2.1 _).trans (h.1 x h1), h.2⟩
theorem n32_addm1 {a : Nat} (h : 1 ≤ a) : n32 a + -n32 1 = n32 (a - 1) := by
  rw [← n32_sub h, Int32.sub_eq_add_neg]
/-- codes stand at a place, their end behind them -/
def tC (m : Nat) (P : mm_P) : Nat → List (Nat × Nat) → Prop
  | pos, [] => gA P 651 m pos = n32 0 ∧ pos < 1100
  | pos, q :: l => gA P 651 m pos = n32 q.1 ∧ gA P 652 m pos = n32 q.2 ∧ tC m P (pos + 1) l
theorem tC.lt {m : Nat} {P : mm_P} : ∀ {l : List (Nat × Nat)} {pos : Nat}, tC m P pos l → pos + l.length < 1100
  | [], _, h => h.2
  | q :: l, pos, h => by
    have := tC.lt h.2.2
    rw [List.length_cons]
    omega
theorem tC.fr {m : Nat} {P P' : mm_P} {W : Nat → Nat → Prop} (hf : fr W P P') (h1 : ¬ W 651 m) (h2 : ¬ W 652 m) : ∀ {l : List (Nat × Nat)} {pos : Nat}, tC m P pos l → tC m P' pos l
  | [], pos, h => ⟨((hf 651 m h1).2.2.2.1 pos).trans h.1, h.2⟩
  | q :: l, pos, h => ⟨((hf 651 m h1).2.2.2.1 pos).trans h.1, ((hf 652 m h2).2.2.2.1 pos).trans h.2.1, tC.fr hf h1 h2 h.2.2⟩
def tPile (m : Nat) (P : mm_P) : List Int32 → Prop
  | [] => True
  | x :: s => gA P 661 m s.length = x ∧ tPile m P s
theorem tPile.kept {m : Nat} {P P' : mm_P} : ∀ {s : List Int32}, tPile m P s → (∀ j, j < s.length → gA P' 661 m j = gA P 661 m j) → tPile m P' s
  | [], _, _ => trivial
  | x :: s, h, k => ⟨(k s.length (by rw [List.length_cons]; omega)).trans h.1, tPile.kept h.2 (fun j hj => k j (by rw [List.length_cons]; omega))⟩
theorem tPile.push {m : Nat} {P : mm_P} {s : List Int32} {v : Int32} (h : tPile m P s) : tPile m (sA P 661 m s.length v) (v :: s) := ⟨gA_sA_eq ⟨rfl, rfl, rfl⟩, h.kept (fun j hj => gA_sA_ne (by omega))⟩
theorem t_worthAt_go {m : Nat} {f : Nat → Int32} : ∀ (l : List (Nat × Nat)) (st : List Int32) (pos : Nat) (P : mm_P) (fuel : Nat), p_okN l st.length = some 1 → tC m P pos l → tPile m P st → (∀ i, i < 3 → gA P 660 m i = f i) → st.length + l.length ≤ 1100 → l.length < fuel → wp (fX5_worthAt_b4 m fuel (n32 st.length) (n32 pos) P) (fun r => r.1 = (p_run f l st).headD (n32 0) ∧ fr (ww m [661]) P r.2) := by
  intro l
  induction l with
  | nil =>
    intro st pos P fuel hok hC hp hf hl hfu
    obtain ⟨n, rfl⟩ : ∃ n, fuel = n + 1 := ⟨fuel - 1, by omega⟩
    have h1 : st.length = 1 := Option.some.inj hok
    obtain ⟨hC1, hC2⟩ := hC
    match st, h1 with
    | [x], _ =>
      have hx : gA P 661 m 0 = x := hp.1
      simp (disch := omega) only [fX5_worthAt_b4, hC1, hx, gA_sA_eq, gA_sA_ne, gI_sI_eq, gI_sI_ne, gA_sI, gI_sA, gR_sA, gR_sI, gL_sA, gL_sI, gB_sA, gB_sI, gJ_sA, gJ_sI, wp_some, wp_gd, wp_bd, wp_lt, wp_ite, gd_true, gd_pos, bd_some, lt_eq, on_some, on_none, if_pos, if_neg, ne_eq, n32_add, n32_mul, n32_in, n32_cl, n32_lt, n32_le, n32_inj, n32_m1_lt, n32_m1_le, n32_lt_m1, n32_le_m1, n32_eq_m1, n32_m1_eq, not_true_eq_false, not_false_eq_true, ite_true, ite_false, Nat.add_assoc, true_and, and_true, decide_true, decide_false, Bool.and_true, Bool.true_and, Bool.and_false, Bool.false_and, Bool.not_true, Bool.not_false, Bool.false_eq_true, Nat.lt_irrefl, Nat.not_lt_zero, l_0, l_1, l_2, l_3, l_4, l_5, l_6, l_7, l_8, l_9, l_10, l_11, l_12, l_13, l_14, l_15, l_16, l_17, l_18, l_19, l_20, l_21, l_22, l_23, l_24, l_25, l_26, l_27, l_28, l_29, l_30, l_31, l_32, l_38, l_40, l_41, l_42, l_43, l_45, l_48, l_54, l_56, l_57, l_59, l_60, l_61, l_63, l_68, l_76, l_96, l_97, l_99, l_100, l_101, l_102, l_103, l_104, l_105, l_106, l_108, l_122, l_124, l_126, l_132, l_255, l_1000, l_1100, l_1134, l_1135, l_1148, l_1154, l_1188, l_1202, l_9999]
      exact ⟨rfl, fr_refl _ _⟩
  | cons q l ih =>
    intro st pos P fuel hok hC hp hf hl hfu
    obtain ⟨n, rfl⟩ : ∃ n, fuel = n + 1 := ⟨fuel - 1, by omega⟩
    obtain ⟨k, a⟩ := q
    have hlt := hC.lt
    obtain ⟨c1, c2, hC3⟩ := hC
    rw [List.length_cons] at hl hfu hlt
    dsimp only at c1 c2
    have key : ∀ (v : Int32) (s : List Int32) (P' : mm_P), fr (ww m [661]) P P' → tPile m P' (v :: s) → p_okN l (s.length + 1) = some 1 → s.length + 1 ≤ st.length + 1 → p_st f (k, a) st = v :: s → wp (fX5_worthAt_b4 m n (n32 (s.length + 1)) (n32 (pos + 1)) P') (fun r => r.1 = (p_run f ((k, a) :: l) st).headD (n32 0) ∧ fr (ww m [661]) P r.2) := by
      intro v s P' hfr hp' hok' hlen hst
      have h := ih (v :: s) (pos + 1) P' n hok' (hC3.fr hfr (by simp [ww]) (by simp [ww])) hp' (fun i hi => ((hfr 660 m (by simp [ww])).2.2.2.1 i).trans (hf i hi)) (by rw [List.length_cons]; omega) (by omega)
      refine wp_mono h fun r hr => ⟨?_, hfr.trans hr.2⟩
      rw [hr.1]
      show _ = (p_run f l (p_st f (k, a) st)).headD _
      rw [hst]
    unfold p_okN at hok
    dsimp only at hok
    by_cases k1 : k = 1
    · subst k1
      rw [if_pos rfl] at hok
      simp (disch := omega) only [fX5_worthAt_b4, fX5_worthAt_b33, c1, c2, gA_sA_eq, gA_sA_ne, gI_sI_eq, gI_sI_ne, gA_sI, gI_sA, gR_sA, gR_sI, gL_sA, gL_sI, gB_sA, gB_sI, gJ_sA, gJ_sI, wp_some, wp_gd, wp_bd, wp_lt, wp_ite, gd_true, gd_pos, bd_some, lt_eq, on_some, on_none, if_pos, if_neg, ne_eq, n32_add, n32_mul, n32_in, n32_cl, n32_lt, n32_le, n32_inj, n32_m1_lt, n32_m1_le, n32_lt_m1, n32_le_m1, n32_eq_m1, n32_m1_eq, not_true_eq_false, not_false_eq_true, ite_true, ite_false, Nat.add_assoc, true_and, and_true, decide_true, decide_false, Bool.and_true, Bool.true_and, Bool.and_false, Bool.false_and, Bool.not_true, Bool.not_false, Bool.false_eq_true, Nat.lt_irrefl, Nat.not_lt_zero, l_0, l_1, l_2, l_3, l_4, l_5, l_6, l_7, l_8, l_9, l_10, l_11, l_12, l_13, l_14, l_15, l_16, l_17, l_18, l_19, l_20, l_21, l_22, l_23, l_24, l_25, l_26, l_27, l_28, l_29, l_30, l_31, l_32, l_38, l_40, l_41, l_42, l_43, l_45, l_48, l_54, l_56, l_57, l_59, l_60, l_61, l_63, l_68, l_76, l_96, l_97, l_99, l_100, l_101, l_102, l_103, l_104, l_105, l_106, l_108, l_122, l_124, l_126, l_132, l_255, l_1000, l_1100, l_1134, l_1135, l_1148, l_1154, l_1188, l_1202, l_9999]
      exact key (n32 a) st _ (by ((repeat' (first | exact fr_refl _ _ | refine fr_sA ?_ ?_ | refine fr_sI ?_ ?_ | refine fr_sL ?_ ?_ | refine fr_sB ?_ ?_ | refine fr_sR ?_ ?_ | refine fr_sJ ?_ ?_ | assumption)) <;> exact ⟨rfl, by decide⟩)) hp.push hok (by omega) rfl
    · rw [if_neg k1] at hok
      by_cases k2 : k = 2
      · subst k2
        rw [if_pos rfl] at hok
        by_cases ha : a < 3
        · rw [if_pos ha] at hok
          simp (disch := omega) only [fX5_worthAt_b4, fX5_worthAt_b33, c1, c2, hf, gA_sA_eq, gA_sA_ne, gI_sI_eq, gI_sI_ne, gA_sI, gI_sA, gR_sA, gR_sI, gL_sA, gL_sI, gB_sA, gB_sI, gJ_sA, gJ_sI, wp_some, wp_gd, wp_bd, wp_lt, wp_ite, gd_true, gd_pos, bd_some, lt_eq, on_some, on_none, if_pos, if_neg, ne_eq, n32_add, n32_mul, n32_in, n32_cl, n32_lt, n32_le, n32_inj, n32_m1_lt, n32_m1_le, n32_lt_m1, n32_le_m1, n32_eq_m1, n32_m1_eq, not_true_eq_false, not_false_eq_true, ite_true, ite_false, Nat.add_assoc, true_and, and_true, decide_true, decide_false, Bool.and_true, Bool.true_and, Bool.and_false, Bool.false_and, Bool.not_true, Bool.not_false, Bool.false_eq_true, Nat.lt_irrefl, Nat.not_lt_zero, l_0, l_1, l_2, l_3, l_4, l_5, l_6, l_7, l_8, l_9, l_10, l_11, l_12, l_13, l_14, l_15, l_16, l_17, l_18, l_19, l_20, l_21, l_22, l_23, l_24, l_25, l_26, l_27, l_28, l_29, l_30, l_31, l_32, l_38, l_40, l_41, l_42, l_43, l_45, l_48, l_54, l_56, l_57, l_59, l_60, l_61, l_63, l_68, l_76, l_96, l_97, l_99, l_100, l_101, l_102, l_103, l_104, l_105, l_106, l_108, l_122, l_124, l_126, l_132, l_255, l_1000, l_1100, l_1134, l_1135, l_1148, l_1154, l_1188, l_1202, l_9999]
          exact key (f a) st _ (by ((repeat' (first | exact fr_refl _ _ | refine fr_sA ?_ ?_ | refine fr_sI ?_ ?_ | refine fr_sL ?_ ?_ | refine fr_sB ?_ ?_ | refine fr_sR ?_ ?_ | refine fr_sJ ?_ ?_ | assumption)) <;> exact ⟨rfl, by decide⟩)) hp.push hok (by omega) rfl
        · rw [if_neg ha] at hok
          cases hok
      · rw [if_neg k2] at hok
        by_cases k3 : k = 3
        · subst k3
          rw [if_pos rfl] at hok
          by_cases hn : 1 ≤ st.length
          · rw [if_pos hn] at hok
            match st, hp, hn, hl with
            | x :: s, hp, _, hl =>
              rw [List.length_cons] at hok hl
              have hx : gA P 661 m s.length = x := hp.1
              by_cases hz : x = n32 0
              · subst hz
                simp (disch := omega) only [fX5_worthAt_b4, c1, n32_sub, List.length_cons, Nat.add_sub_cancel, hx, gA_sA_eq, gA_sA_ne, gI_sI_eq, gI_sI_ne, gA_sI, gI_sA, gR_sA, gR_sI, gL_sA, gL_sI, gB_sA, gB_sI, gJ_sA, gJ_sI, wp_some, wp_gd, wp_bd, wp_lt, wp_ite, gd_true, gd_pos, bd_some, lt_eq, on_some, on_none, if_pos, if_neg, ne_eq, n32_add, n32_mul, n32_in, n32_cl, n32_lt, n32_le, n32_inj, n32_m1_lt, n32_m1_le, n32_lt_m1, n32_le_m1, n32_eq_m1, n32_m1_eq, not_true_eq_false, not_false_eq_true, ite_true, ite_false, Nat.add_assoc, true_and, and_true, decide_true, decide_false, Bool.and_true, Bool.true_and, Bool.and_false, Bool.false_and, Bool.not_true, Bool.not_false, Bool.false_eq_true, Nat.lt_irrefl, Nat.not_lt_zero, l_0, l_1, l_2, l_3, l_4, l_5, l_6, l_7, l_8, l_9, l_10, l_11, l_12, l_13, l_14, l_15, l_16, l_17, l_18, l_19, l_20, l_21, l_22, l_23, l_24, l_25, l_26, l_27, l_28, l_29, l_30, l_31, l_32, l_38, l_40, l_41, l_42, l_43, l_45, l_48, l_54, l_56, l_57, l_59, l_60, l_61, l_63, l_68, l_76, l_96, l_97, l_99, l_100, l_101, l_102, l_103, l_104, l_105, l_106, l_108, l_122, l_124, l_126, l_132, l_255, l_1000, l_1100, l_1134, l_1135, l_1148, l_1154, l_1188, l_1202, l_9999]
                exact key (n32 1) s _ (by ((repeat' (first | exact fr_refl _ _ | refine fr_sA ?_ ?_ | refine fr_sI ?_ ?_ | refine fr_sL ?_ ?_ | refine fr_sB ?_ ?_ | refine fr_sR ?_ ?_ | refine fr_sJ ?_ ?_ | assumption)) <;> exact ⟨rfl, by decide⟩)) hp.2.push hok (by rw [List.length_cons]; omega) rfl
              · simp (disch := omega) only [fX5_worthAt_b4, c1, n32_sub, List.length_cons, Nat.add_sub_cancel, hx, hz, gA_sA_eq, gA_sA_ne, gI_sI_eq, gI_sI_ne, gA_sI, gI_sA, gR_sA, gR_sI, gL_sA, gL_sI, gB_sA, gB_sI, gJ_sA, gJ_sI, wp_some, wp_gd, wp_bd, wp_lt, wp_ite, gd_true, gd_pos, bd_some, lt_eq, on_some, on_none, if_pos, if_neg, ne_eq, n32_add, n32_mul, n32_in, n32_cl, n32_lt, n32_le, n32_inj, n32_m1_lt, n32_m1_le, n32_lt_m1, n32_le_m1, n32_eq_m1, n32_m1_eq, not_true_eq_false, not_false_eq_true, ite_true, ite_false, Nat.add_assoc, true_and, and_true, decide_true, decide_false, Bool.and_true, Bool.true_and, Bool.and_false, Bool.false_and, Bool.not_true, Bool.not_false, Bool.false_eq_true, Nat.lt_irrefl, Nat.not_lt_zero, l_0, l_1, l_2, l_3, l_4, l_5, l_6, l_7, l_8, l_9, l_10, l_11, l_12, l_13, l_14, l_15, l_16, l_17, l_18, l_19, l_20, l_21, l_22, l_23, l_24, l_25, l_26, l_27, l_28, l_29, l_30, l_31, l_32, l_38, l_40, l_41, l_42, l_43, l_45, l_48, l_54, l_56, l_57, l_59, l_60, l_61, l_63, l_68, l_76, l_96, l_97, l_99, l_100, l_101, l_102, l_103, l_104, l_105, l_106, l_108, l_122, l_124, l_126, l_132, l_255, l_1000, l_1100, l_1134, l_1135, l_1148, l_1154, l_1188, l_1202, l_9999]
                exact key (n32 0) s _ (by ((repeat' (first | exact fr_refl _ _ | refine fr_sA ?_ ?_ | refine fr_sI ?_ ?_ | refine fr_sL ?_ ?_ | refine fr_sB ?_ ?_ | refine fr_sR ?_ ?_ | refine fr_sJ ?_ ?_ | assumption)) <;> exact ⟨rfl, by decide⟩)) hp.2.push hok (by rw [List.length_cons]; omega) (by
                  show b2 (decide (x = n32 0)) :: s = _
                  rw [decide_eq_false hz]
                  rfl)
          · rw [if_neg hn] at hok
            cases hok
        · rw [if_neg k3] at hok
          by_cases hn : 4 ≤ k ∧ k ≤ 10 ∧ 2 ≤ st.length
          · rw [if_pos hn] at hok
            obtain ⟨k4, k10, hn⟩ := hn
            match st, hp, hn, hl with
            | y :: x :: s, hp, _, hl =>
              rw [List.length_cons, List.length_cons] at hok hl
              have hx : gA P 661 m s.length = x := hp.2.1
              have hy : gA P 661 m (s.length + 1) = y := hp.1
              have e0 : n32 (s.length + 1 + 1) + -n32 1 = n32 (s.length + 1) := n32_addm1 (by omega)
              have e1 : n32 (s.length + 1) - n32 1 = n32 s.length := n32_sub (by omega)
              rw [show (y :: x :: s).length = s.length + 1 + 1 from rfl]
              have e2 : fX5_both (n32 k) x y = some (p_both k x y) := t_both ⟨k4, k10⟩
              unfold fX5_worthAt_b4
              rw [show (-1 : Int32) = -n32 1 from rfl, e0, show (1 : Int32) = n32 1 from rfl, e1]
              simp (disch := omega) only [c1, hx, hy, e2, gA_sA_eq, gA_sA_ne, gI_sI_eq, gI_sI_ne, gA_sI, gI_sA, gR_sA, gR_sI, gL_sA, gL_sI, gB_sA, gB_sI, gJ_sA, gJ_sI, wp_some, wp_gd, wp_bd, wp_lt, wp_ite, gd_true, gd_pos, bd_some, lt_eq, on_some, on_none, if_pos, if_neg, ne_eq, n32_add, n32_mul, n32_in, n32_cl, n32_lt, n32_le, n32_inj, n32_m1_lt, n32_m1_le, n32_lt_m1, n32_le_m1, n32_eq_m1, n32_m1_eq, not_true_eq_false, not_false_eq_true, ite_true, ite_false, Nat.add_assoc, true_and, and_true, decide_true, decide_false, Bool.and_true, Bool.true_and, Bool.and_false, Bool.false_and, Bool.not_true, Bool.not_false, Bool.false_eq_true, Nat.lt_irrefl, Nat.not_lt_zero, l_0, l_1, l_2, l_3, l_4, l_5, l_6, l_7, l_8, l_9, l_10, l_11, l_12, l_13, l_14, l_15, l_16, l_17, l_18, l_19, l_20, l_21, l_22, l_23, l_24, l_25, l_26, l_27, l_28, l_29, l_30, l_31, l_32, l_38, l_40, l_41, l_42, l_43, l_45, l_48, l_54, l_56, l_57, l_59, l_60, l_61, l_63, l_68, l_76, l_96, l_97, l_99, l_100, l_101, l_102, l_103, l_104, l_105, l_106, l_108, l_122, l_124, l_126, l_132, l_255, l_1000, l_1100, l_1134, l_1135, l_1148, l_1154, l_1188, l_1202, l_9999]
              refine key (p_both k x y) s _ (by ((repeat' (first | exact fr_refl _ _ | refine fr_sA ?_ ?_ | refine fr_sI ?_ ?_ | refine fr_sL ?_ ?_ | refine fr_sB ?_ ?_ | refine fr_sR ?_ ?_ | refine fr_sJ ?_ ?_ | assumption)) <;> exact ⟨rfl, by decide⟩)) hp.2.2.push hok (by rw [List.length_cons, List.length_cons]; omega) ?_
              unfold p_st
              rw [if_neg k1, if_neg k2]
              show (if k = 3 then _ else _) = _
              rw [if_neg k3]
          · rw [if_neg hn] at hok
            cases hok
/-- an expression of the rope: where its codes begin stands at place j of the row -/
def tE (m : Nat) (P : mm_P) (j : Nat) (cp : Option (List (Nat × Nat))) : Prop := match cp with
  | none => gA P 650 m j = -n32 1
  | some l => ∃ pos, gA P 650 m j = n32 pos ∧ tC m P pos l ∧ p_okN l 0 = some 1
theorem tE.fr {m j : Nat} {P P' : mm_P} {W : Nat → Nat → Prop} {cp : Option (List (Nat × Nat))} (h : tE m P j cp) (hf : fr W P P') (h0 : ¬ W 650 m) (h1 : ¬ W 651 m) (h2 : ¬ W 652 m) : tE m P' j cp := by
  cases cp with
  | none => exact ((hf 650 m h0).2.2.2.1 j).trans h
  | some l =>
    obtain ⟨pos, a1, a2, a3⟩ := h
    exact ⟨pos, ((hf 650 m h0).2.2.2.1 j).trans a1, a2.fr hf h1 h2, a3⟩
theorem t_laysFacts {m : Nat} {P : mm_P} {R : Nat → Nat} {c wet wind : Nat} (h : tR m P R) (hc : c < 6) : wp (fX5_laysFacts m (n32 c) (n32 wet) (n32 wind) P) (fun P' => (∀ i, i < 3 → gA P' 660 m i = p_f R c wet wind i) ∧ fr (ww m [660]) P P') := by
  have hf : ∀ v : Int32, fr (ww m [660]) P (sA P 660 m 0 v) := fun v => by ((repeat' (first | exact fr_refl _ _ | refine fr_sA ?_ ?_ | refine fr_sI ?_ ?_ | refine fr_sL ?_ ?_ | refine fr_sB ?_ ?_ | refine fr_sR ?_ ?_ | refine fr_sJ ?_ ?_ | assumption)) <;> exact ⟨rfl, by decide⟩)
  have hf2 : ∀ v w : Int32, fr (ww m [660]) P (sA (sA P 660 m 0 v) 660 m 1 w) := fun v w => by ((repeat' (first | exact fr_refl _ _ | refine fr_sA ?_ ?_ | refine fr_sI ?_ ?_ | refine fr_sL ?_ ?_ | refine fr_sB ?_ ?_ | refine fr_sR ?_ ?_ | refine fr_sJ ?_ ?_ | assumption)) <;> exact ⟨rfl, by decide⟩)
  have h1 : ∀ v : Int32, tR m (sA P 660 m 0 v) R := fun v => h.fr (hf v) (by simp [ww])
  have h2 : ∀ v w : Int32, tR m (sA (sA P 660 m 0 v) 660 m 1 w) R := fun v w => h.fr (hf2 v w) (by simp [ww])
  have hRb := h.2
  by_cases q : R (8 + (4 * c + 0)) = 3
  · simp (disch := (first | omega | (refine Nat.lt_of_le_of_lt (hRb _) ?_; decide))) only [fX5_laysFacts, fX5_laysFacts_b35, t_clothOf (h1 _), t_clothOf (h2 _ _), q, gA_sA_eq, gA_sA_ne, gI_sI_eq, gI_sI_ne, gA_sI, gI_sA, gR_sA, gR_sI, gL_sA, gL_sI, gB_sA, gB_sI, gJ_sA, gJ_sI, wp_some, wp_gd, wp_bd, wp_lt, wp_ite, gd_true, gd_pos, bd_some, lt_eq, on_some, on_none, if_pos, if_neg, ne_eq, n32_add, n32_mul, n32_in, n32_cl, n32_lt, n32_le, n32_inj, n32_m1_lt, n32_m1_le, n32_lt_m1, n32_le_m1, n32_eq_m1, n32_m1_eq, not_true_eq_false, not_false_eq_true, ite_true, ite_false, Nat.add_assoc, true_and, and_true, decide_true, decide_false, Bool.and_true, Bool.true_and, Bool.and_false, Bool.false_and, Bool.not_true, Bool.not_false, Bool.false_eq_true, Nat.lt_irrefl, Nat.not_lt_zero, l_0, l_1, l_2, l_3, l_4, l_5, l_6, l_7, l_8, l_9, l_10, l_11, l_12, l_13, l_14, l_15, l_16, l_17, l_18, l_19, l_20, l_21, l_22, l_23, l_24, l_25, l_26, l_27, l_28, l_29, l_30, l_31, l_32, l_38, l_40, l_41, l_42, l_43, l_45, l_48, l_54, l_56, l_57, l_59, l_60, l_61, l_63, l_68, l_76, l_96, l_97, l_99, l_100, l_101, l_102, l_103, l_104, l_105, l_106, l_108, l_122, l_124, l_126, l_132, l_255, l_1000, l_1100, l_1134, l_1135, l_1148, l_1154, l_1188, l_1202, l_9999]
    refine ⟨fun i hi => ?_, by ((repeat' (first | exact fr_refl _ _ | refine fr_sA ?_ ?_ | refine fr_sI ?_ ?_ | refine fr_sL ?_ ?_ | refine fr_sB ?_ ?_ | refine fr_sR ?_ ?_ | refine fr_sJ ?_ ?_ | assumption)) <;> exact ⟨rfl, by decide⟩)⟩
    match i, hi with
    | 0, _ => simp (disch := omega) only [p_f, gA_sA_eq, gA_sA_ne, gI_sI_eq, gI_sI_ne, gA_sI, gI_sA, gR_sA, gR_sI, gL_sA, gL_sI, gB_sA, gB_sI, gJ_sA, gJ_sI, gd_true, gd_pos, bd_some, lt_eq, on_some, on_none, if_pos, if_neg, ne_eq, n32_add, n32_mul, n32_in, n32_cl, n32_lt, n32_le, n32_inj, n32_m1_lt, n32_m1_le, n32_lt_m1, n32_le_m1, n32_eq_m1, n32_m1_eq, not_true_eq_false, not_false_eq_true, ite_true, ite_false, Nat.add_assoc, true_and, and_true, decide_true, decide_false, Bool.and_true, Bool.true_and, Bool.and_false, Bool.false_and, Bool.not_true, Bool.not_false, Bool.false_eq_true, Nat.lt_irrefl, Nat.not_lt_zero, l_0, l_1, l_2, l_3, l_4, l_5, l_6, l_7, l_8, l_9, l_10, l_11, l_12, l_13, l_14, l_15, l_16, l_17, l_18, l_19, l_20, l_21, l_22, l_23, l_24, l_25, l_26, l_27, l_28, l_29, l_30, l_31, l_32, l_38, l_40, l_41, l_42, l_43, l_45, l_48, l_54, l_56, l_57, l_59, l_60, l_61, l_63, l_68, l_76, l_96, l_97, l_99, l_100, l_101, l_102, l_103, l_104, l_105, l_106, l_108, l_122, l_124, l_126, l_132, l_255, l_1000, l_1100, l_1134, l_1135, l_1148, l_1154, l_1188, l_1202, l_9999]
    | 1, _ => simp (disch := omega) only [p_f, p_mass, p_wt, p_kd, q, gA_sA_eq, gA_sA_ne, gI_sI_eq, gI_sI_ne, gA_sI, gI_sA, gR_sA, gR_sI, gL_sA, gL_sI, gB_sA, gB_sI, gJ_sA, gJ_sI, gd_true, gd_pos, bd_some, lt_eq, on_some, on_none, if_pos, if_neg, ne_eq, n32_add, n32_mul, n32_in, n32_cl, n32_lt, n32_le, n32_inj, n32_m1_lt, n32_m1_le, n32_lt_m1, n32_le_m1, n32_eq_m1, n32_m1_eq, not_true_eq_false, not_false_eq_true, ite_true, ite_false, Nat.add_assoc, true_and, and_true, decide_true, decide_false, Bool.and_true, Bool.true_and, Bool.and_false, Bool.false_and, Bool.not_true, Bool.not_false, Bool.false_eq_true, Nat.lt_irrefl, Nat.not_lt_zero, l_0, l_1, l_2, l_3, l_4, l_5, l_6, l_7, l_8, l_9, l_10, l_11, l_12, l_13, l_14, l_15, l_16, l_17, l_18, l_19, l_20, l_21, l_22, l_23, l_24, l_25, l_26, l_27, l_28, l_29, l_30, l_31, l_32, l_38, l_40, l_41, l_42, l_43, l_45, l_48, l_54, l_56, l_57, l_59, l_60, l_61, l_63, l_68, l_76, l_96, l_97, l_99, l_100, l_101, l_102, l_103, l_104, l_105, l_106, l_108, l_122, l_124, l_126, l_132, l_255, l_1000, l_1100, l_1134, l_1135, l_1148, l_1154, l_1188, l_1202, l_9999]
    | 2, _ => simp (disch := omega) only [p_f, p_wd, gA_sA_eq, gA_sA_ne, gI_sI_eq, gI_sI_ne, gA_sI, gI_sA, gR_sA, gR_sI, gL_sA, gL_sI, gB_sA, gB_sI, gJ_sA, gJ_sI, gd_true, gd_pos, bd_some, lt_eq, on_some, on_none, if_pos, if_neg, ne_eq, n32_add, n32_mul, n32_in, n32_cl, n32_lt, n32_le, n32_inj, n32_m1_lt, n32_m1_le, n32_lt_m1, n32_le_m1, n32_eq_m1, n32_m1_eq, not_true_eq_false, not_false_eq_true, ite_true, ite_false, Nat.add_assoc, true_and, and_true, decide_true, decide_false, Bool.and_true, Bool.true_and, Bool.and_false, Bool.false_and, Bool.not_true, Bool.not_false, Bool.false_eq_true, Nat.lt_irrefl, Nat.not_lt_zero, l_0, l_1, l_2, l_3, l_4, l_5, l_6, l_7, l_8, l_9, l_10, l_11, l_12, l_13, l_14, l_15, l_16, l_17, l_18, l_19, l_20, l_21, l_22, l_23, l_24, l_25, l_26, l_27, l_28, l_29, l_30, l_31, l_32, l_38, l_40, l_41, l_42, l_43, l_45, l_48, l_54, l_56, l_57, l_59, l_60, l_61, l_63, l_68, l_76, l_96, l_97, l_99, l_100, l_101, l_102, l_103, l_104, l_105, l_106, l_108, l_122, l_124, l_126, l_132, l_255, l_1000, l_1100, l_1134, l_1135, l_1148, l_1154, l_1188, l_1202, l_9999]
  · simp (disch := (first | omega | (refine Nat.lt_of_le_of_lt (hRb _) ?_; decide))) only [fX5_laysFacts, fX5_laysFacts_b35, t_clothOf (h1 _), t_clothOf (h2 _ _), q, gA_sA_eq, gA_sA_ne, gI_sI_eq, gI_sI_ne, gA_sI, gI_sA, gR_sA, gR_sI, gL_sA, gL_sI, gB_sA, gB_sI, gJ_sA, gJ_sI, wp_some, wp_gd, wp_bd, wp_lt, wp_ite, gd_true, gd_pos, bd_some, lt_eq, on_some, on_none, if_pos, if_neg, ne_eq, n32_add, n32_mul, n32_in, n32_cl, n32_lt, n32_le, n32_inj, n32_m1_lt, n32_m1_le, n32_lt_m1, n32_le_m1, n32_eq_m1, n32_m1_eq, not_true_eq_false, not_false_eq_true, ite_true, ite_false, Nat.add_assoc, true_and, and_true, decide_true, decide_false, Bool.and_true, Bool.true_and, Bool.and_false, Bool.false_and, Bool.not_true, Bool.not_false, Bool.false_eq_true, Nat.lt_irrefl, Nat.not_lt_zero, l_0, l_1, l_2, l_3, l_4, l_5, l_6, l_7, l_8, l_9, l_10, l_11, l_12, l_13, l_14, l_15, l_16, l_17, l_18, l_19, l_20, l_21, l_22, l_23, l_24, l_25, l_26, l_27, l_28, l_29, l_30, l_31, l_32, l_38, l_40, l_41, l_42, l_43, l_45, l_48, l_54, l_56, l_57, l_59, l_60, l_61, l_63, l_68, l_76, l_96, l_97, l_99, l_100, l_101, l_102, l_103, l_104, l_105, l_106, l_108, l_122, l_124, l_126, l_132, l_255, l_1000, l_1100, l_1134, l_1135, l_1148, l_1154, l_1188, l_1202, l_9999]
    refine ⟨fun i hi => ?_, by ((repeat' (first | exact fr_refl _ _ | refine fr_sA ?_ ?_ | refine fr_sI ?_ ?_ | refine fr_sL ?_ ?_ | refine fr_sB ?_ ?_ | refine fr_sR ?_ ?_ | refine fr_sJ ?_ ?_ | assumption)) <;> exact ⟨rfl, by decide⟩)⟩
    match i, hi with
    | 0, _ => simp (disch := omega) only [p_f, gA_sA_eq, gA_sA_ne, gI_sI_eq, gI_sI_ne, gA_sI, gI_sA, gR_sA, gR_sI, gL_sA, gL_sI, gB_sA, gB_sI, gJ_sA, gJ_sI, gd_true, gd_pos, bd_some, lt_eq, on_some, on_none, if_pos, if_neg, ne_eq, n32_add, n32_mul, n32_in, n32_cl, n32_lt, n32_le, n32_inj, n32_m1_lt, n32_m1_le, n32_lt_m1, n32_le_m1, n32_eq_m1, n32_m1_eq, not_true_eq_false, not_false_eq_true, ite_true, ite_false, Nat.add_assoc, true_and, and_true, decide_true, decide_false, Bool.and_true, Bool.true_and, Bool.and_false, Bool.false_and, Bool.not_true, Bool.not_false, Bool.false_eq_true, Nat.lt_irrefl, Nat.not_lt_zero, l_0, l_1, l_2, l_3, l_4, l_5, l_6, l_7, l_8, l_9, l_10, l_11, l_12, l_13, l_14, l_15, l_16, l_17, l_18, l_19, l_20, l_21, l_22, l_23, l_24, l_25, l_26, l_27, l_28, l_29, l_30, l_31, l_32, l_38, l_40, l_41, l_42, l_43, l_45, l_48, l_54, l_56, l_57, l_59, l_60, l_61, l_63, l_68, l_76, l_96, l_97, l_99, l_100, l_101, l_102, l_103, l_104, l_105, l_106, l_108, l_122, l_124, l_126, l_132, l_255, l_1000, l_1100, l_1134, l_1135, l_1148, l_1154, l_1188, l_1202, l_9999]
    | 1, _ => simp (disch := omega) only [p_f, p_mass, p_wt, p_kd, q, gA_sA_eq, gA_sA_ne, gI_sI_eq, gI_sI_ne, gA_sI, gI_sA, gR_sA, gR_sI, gL_sA, gL_sI, gB_sA, gB_sI, gJ_sA, gJ_sI, gd_true, gd_pos, bd_some, lt_eq, on_some, on_none, if_pos, if_neg, ne_eq, n32_add, n32_mul, n32_in, n32_cl, n32_lt, n32_le, n32_inj, n32_m1_lt, n32_m1_le, n32_lt_m1, n32_le_m1, n32_eq_m1, n32_m1_eq, not_true_eq_false, not_false_eq_true, ite_true, ite_false, Nat.add_assoc, true_and, and_true, decide_true, decide_false, Bool.and_true, Bool.true_and, Bool.and_false, Bool.false_and, Bool.not_true, Bool.not_false, Bool.false_eq_true, Nat.lt_irrefl, Nat.not_lt_zero, l_0, l_1, l_2, l_3, l_4, l_5, l_6, l_7, l_8, l_9, l_10, l_11, l_12, l_13, l_14, l_15, l_16, l_17, l_18, l_19, l_20, l_21, l_22, l_23, l_24, l_25, l_26, l_27, l_28, l_29, l_30, l_31, l_32, l_38, l_40, l_41, l_42, l_43, l_45, l_48, l_54, l_56, l_57, l_59, l_60, l_61, l_63, l_68, l_76, l_96, l_97, l_99, l_100, l_101, l_102, l_103, l_104, l_105, l_106, l_108, l_122, l_124, l_126, l_132, l_255, l_1000, l_1100, l_1134, l_1135, l_1148, l_1154, l_1188, l_1202, l_9999]
    | 2, _ => simp (disch := omega) only [p_f, p_wd, gA_sA_eq, gA_sA_ne, gI_sI_eq, gI_sI_ne, gA_sI, gI_sA, gR_sA, gR_sI, gL_sA, gL_sI, gB_sA, gB_sI, gJ_sA, gJ_sI, gd_true, gd_pos, bd_some, lt_eq, on_some, on_none, if_pos, if_neg, ne_eq, n32_add, n32_mul, n32_in, n32_cl, n32_lt, n32_le, n32_inj, n32_m1_lt, n32_m1_le, n32_lt_m1, n32_le_m1, n32_eq_m1, n32_m1_eq, not_true_eq_false, not_false_eq_true, ite_true, ite_false, Nat.add_assoc, true_and, and_true, decide_true, decide_false, Bool.and_true, Bool.true_and, Bool.and_false, Bool.false_and, Bool.not_true, Bool.not_false, Bool.false_eq_true, Nat.lt_irrefl, Nat.not_lt_zero, l_0, l_1, l_2, l_3, l_4, l_5, l_6, l_7, l_8, l_9, l_10, l_11, l_12, l_13, l_14, l_15, l_16, l_17, l_18, l_19, l_20, l_21, l_22, l_23, l_24, l_25, l_26, l_27, l_28, l_29, l_30, l_31, l_32, l_38, l_40, l_41, l_42, l_43, l_45, l_48, l_54, l_56, l_57, l_59, l_60, l_61, l_63, l_68, l_76, l_96, l_97, l_99, l_100, l_101, l_102, l_103, l_104, l_105, l_106, l_108, l_122, l_124, l_126, l_132, l_255, l_1000, l_1100, l_1134, l_1135, l_1148, l_1154, l_1188, l_1202, l_9999]
/-- a value brought between 0 and the most, as the reference does it -/
theorem cl_if {α : Type} {most : Nat} {v : Int32} (hm : most < 1000) (g : Int32 → α) : (if n32 0 ≤ v then (if v ≤ n32 most then g v else g (n32 most)) else g (n32 0)) = g (n32 (p_cl most v)) := by
  unfold p_cl
  by_cases h1 : v < n32 0
  · rw [if_neg (Int32.not_le.mpr h1), if_pos h1]
  · rw [if_pos (Int32.not_lt.mp h1), if_neg h1]
    by_cases h2 : n32 most < v
    · rw [if_neg (Int32.not_le.mpr h2), if_pos h2]
    · rw [if_pos (Int32.not_lt.mp h2), if_neg h2]
      congr 1
      exact (Int32.ofNat_toNatClampNeg v (Int32.not_lt.mp h1)).symm
theorem t_val {m j : Nat} {P : mm_P} {R : Nat → Nat} {l : List (Nat × Nat)} {f : Nat → Int32} (hE : tE m P j (some l)) (hf : ∀ i, i < 3 → gA P 660 m i = f i) : ∃ pos, pos < 1100 ∧ gA P 650 m j = n32 pos ∧ wp (fX5_worthAt m (n32 pos) P) (fun r => r.1 = p_val f l ∧ fr (ww m [661]) P r.2) := by
  obtain ⟨pos, a1, a2, a3⟩ := hE
  have hlt := a2.lt
  refine ⟨pos, by omega, a1, ?_⟩
  exact t_worthAt_go l [] pos P mm_NF a3 a2 trivial hf (by show 0 + l.length ≤ 1100; omega) (by show l.length < 100000; omega)
theorem t_pullOf {m : Nat} {P : mm_P} {R : Nat → Nat} {cp : Option (List (Nat × Nat))} {c wet wind : Nat} (h : tR m P R) (hE : tE m P 6 cp) (hc : c < 6) : wp (fX5_pullOf m (n32 c) (n32 wet) (n32 wind) P) (fun r => r.1 = n32 (p_pull R cp c wet wind) ∧ fr (ww m [660, 661]) P r.2) := by
  have hRb := h.2
  unfold fX5_pullOf
  rw [wp_bd]
  refine wp_mono (t_laysFacts h hc) fun P1 ⟨hf1, hfr1⟩ => ?_
  have h1 := h.fr hfr1 (by simp [ww])
  have hE1 := hE.fr hfr1 (by simp [ww]) (by simp [ww]) (by simp [ww])
  have hfr1' : fr (ww m [660, 661]) P P1 := hfr1.mono (fun c a q => ⟨q.1, by have := q.2; simp at this; simp [this]⟩)
  -- what stands behind the clamp
  have key : ∀ (u : Int32) (P2 : mm_P), fr (ww m [660, 661]) P P2 → wp (fX5_pullOf_b51 m (n32 c) u P2) (fun r => r.1 = n32 (if p_kd R c = 2 then 2 * p_cl 99 u else p_cl 99 u) ∧ fr (ww m [660, 661]) P r.2) := by
    intro u P2 hfr2
    have h2 := h.fr hfr2 (by simp [ww])
    have e : fX5_pullOf_b51 m (n32 c) u P2 = fX5_pullOf_b76 m (n32 c) (n32 (p_cl 99 u)) P2 := cl_if (most := 99) (by decide) (fun v => fX5_pullOf_b76 m (n32 c) v P2)
    rw [e]
    have := p_cl_le 99 u
    unfold p_kd
    by_cases q : R (8 + (4 * c + 0)) = 2
    · simp (disch := omega) only [fX5_pullOf_b76, t_clothOf h2, q, gA_sA_eq, gA_sA_ne, gI_sI_eq, gI_sI_ne, gA_sI, gI_sA, gR_sA, gR_sI, gL_sA, gL_sI, gB_sA, gB_sI, gJ_sA, gJ_sI, wp_some, wp_gd, wp_bd, wp_lt, wp_ite, gd_true, gd_pos, bd_some, lt_eq, on_some, on_none, if_pos, if_neg, ne_eq, n32_add, n32_mul, n32_in, n32_cl, n32_lt, n32_le, n32_inj, n32_m1_lt, n32_m1_le, n32_lt_m1, n32_le_m1, n32_eq_m1, n32_m1_eq, not_true_eq_false, not_false_eq_true, ite_true, ite_false, Nat.add_assoc, true_and, and_true, decide_true, decide_false, Bool.and_true, Bool.true_and, Bool.and_false, Bool.false_and, Bool.not_true, Bool.not_false, Bool.false_eq_true, Nat.lt_irrefl, Nat.not_lt_zero, l_0, l_1, l_2, l_3, l_4, l_5, l_6, l_7, l_8, l_9, l_10, l_11, l_12, l_13, l_14, l_15, l_16, l_17, l_18, l_19, l_20, l_21, l_22, l_23, l_24, l_25, l_26, l_27, l_28, l_29, l_30, l_31, l_32, l_38, l_40, l_41, l_42, l_43, l_45, l_48, l_54, l_56, l_57, l_59, l_60, l_61, l_63, l_68, l_76, l_96, l_97, l_99, l_100, l_101, l_102, l_103, l_104, l_105, l_106, l_108, l_122, l_124, l_126, l_132, l_255, l_1000, l_1100, l_1134, l_1135, l_1148, l_1154, l_1188, l_1202, l_9999]
      exact hfr2
    · simp (disch := (first | omega | (refine Nat.lt_of_le_of_lt (hRb _) ?_; decide))) only [fX5_pullOf_b76, t_clothOf h2, q, gA_sA_eq, gA_sA_ne, gI_sI_eq, gI_sI_ne, gA_sI, gI_sA, gR_sA, gR_sI, gL_sA, gL_sI, gB_sA, gB_sI, gJ_sA, gJ_sI, wp_some, wp_gd, wp_bd, wp_lt, wp_ite, gd_true, gd_pos, bd_some, lt_eq, on_some, on_none, if_pos, if_neg, ne_eq, n32_add, n32_mul, n32_in, n32_cl, n32_lt, n32_le, n32_inj, n32_m1_lt, n32_m1_le, n32_lt_m1, n32_le_m1, n32_eq_m1, n32_m1_eq, not_true_eq_false, not_false_eq_true, ite_true, ite_false, Nat.add_assoc, true_and, and_true, decide_true, decide_false, Bool.and_true, Bool.true_and, Bool.and_false, Bool.false_and, Bool.not_true, Bool.not_false, Bool.false_eq_true, Nat.lt_irrefl, Nat.not_lt_zero, l_0, l_1, l_2, l_3, l_4, l_5, l_6, l_7, l_8, l_9, l_10, l_11, l_12, l_13, l_14, l_15, l_16, l_17, l_18, l_19, l_20, l_21, l_22, l_23, l_24, l_25, l_26, l_27, l_28, l_29, l_30, l_31, l_32, l_38, l_40, l_41, l_42, l_43, l_45, l_48, l_54, l_56, l_57, l_59, l_60, l_61, l_63, l_68, l_76, l_96, l_97, l_99, l_100, l_101, l_102, l_103, l_104, l_105, l_106, l_108, l_122, l_124, l_126, l_132, l_255, l_1000, l_1100, l_1134, l_1135, l_1148, l_1154, l_1188, l_1202, l_9999]
      exact hfr2
  cases cp with
  | none =>
    have e6 : gA P1 650 m 6 = -n32 1 := hE1
    have f0 := hf1 0 (by decide)
    have f1 := hf1 1 (by decide)
    have f2 := hf1 2 (by decide)
    simp (disch := omega) only [e6, f0, f1, f2, gA_sA_eq, gA_sA_ne, gI_sI_eq, gI_sI_ne, gA_sI, gI_sA, gR_sA, gR_sI, gL_sA, gL_sI, gB_sA, gB_sI, gJ_sA, gJ_sI, wp_some, wp_gd, wp_bd, wp_lt, wp_ite, gd_true, gd_pos, bd_some, lt_eq, on_some, on_none, if_pos, if_neg, ne_eq, n32_add, n32_mul, n32_in, n32_cl, n32_lt, n32_le, n32_inj, n32_m1_lt, n32_m1_le, n32_lt_m1, n32_le_m1, n32_eq_m1, n32_m1_eq, not_true_eq_false, not_false_eq_true, ite_true, ite_false, Nat.add_assoc, true_and, and_true, decide_true, decide_false, Bool.and_true, Bool.true_and, Bool.and_false, Bool.false_and, Bool.not_true, Bool.not_false, Bool.false_eq_true, Nat.lt_irrefl, Nat.not_lt_zero, l_0, l_1, l_2, l_3, l_4, l_5, l_6, l_7, l_8, l_9, l_10, l_11, l_12, l_13, l_14, l_15, l_16, l_17, l_18, l_19, l_20, l_21, l_22, l_23, l_24, l_25, l_26, l_27, l_28, l_29, l_30, l_31, l_32, l_38, l_40, l_41, l_42, l_43, l_45, l_48, l_54, l_56, l_57, l_59, l_60, l_61, l_63, l_68, l_76, l_96, l_97, l_99, l_100, l_101, l_102, l_103, l_104, l_105, l_106, l_108, l_122, l_124, l_126, l_132, l_255, l_1000, l_1100, l_1134, l_1135, l_1148, l_1154, l_1188, l_1202, l_9999]
    exact key _ P1 hfr1'
  | some l =>
    obtain ⟨pos, a1, a2, a3⟩ := t_val (R := R) hE1 hf1
    simp (disch := omega) only [a2, gA_sA_eq, gA_sA_ne, gI_sI_eq, gI_sI_ne, gA_sI, gI_sA, gR_sA, gR_sI, gL_sA, gL_sI, gB_sA, gB_sI, gJ_sA, gJ_sI, wp_some, wp_gd, wp_bd, wp_lt, wp_ite, gd_true, gd_pos, bd_some, lt_eq, on_some, on_none, if_pos, if_neg, ne_eq, n32_add, n32_mul, n32_in, n32_cl, n32_lt, n32_le, n32_inj, n32_m1_lt, n32_m1_le, n32_lt_m1, n32_le_m1, n32_eq_m1, n32_m1_eq, not_true_eq_false, not_false_eq_true, ite_true, ite_false, Nat.add_assoc, true_and, and_true, decide_true, decide_false, Bool.and_true, Bool.true_and, Bool.and_false, Bool.false_and, Bool.not_true, Bool.not_false, Bool.false_eq_true, Nat.lt_irrefl, Nat.not_lt_zero, l_0, l_1, l_2, l_3, l_4, l_5, l_6, l_7, l_8, l_9, l_10, l_11, l_12, l_13, l_14, l_15, l_16, l_17, l_18, l_19, l_20, l_21, l_22, l_23, l_24, l_25, l_26, l_27, l_28, l_29, l_30, l_31, l_32, l_38, l_40, l_41, l_42, l_43, l_45, l_48, l_54, l_56, l_57, l_59, l_60, l_61, l_63, l_68, l_76, l_96, l_97, l_99, l_100, l_101, l_102, l_103, l_104, l_105, l_106, l_108, l_122, l_124, l_126, l_132, l_255, l_1000, l_1100, l_1134, l_1135, l_1148, l_1154, l_1188, l_1202, l_9999]
    refine wp_mono a3 fun r ⟨b1, b2⟩ => ?_
    rw [b1]
    exact key _ r.2 (hfr1'.trans (b2.mono (fun c a q => ⟨q.1, by have := q.2; simp at this; simp [this]⟩)))
theorem sub9 {a b : Nat} (ha : a < 10) (hb : b < 10) : (n32 0 ≤ n32 a - n32 b ∧ n32 a - n32 b = n32 (a - b)) ∨ (¬ n32 0 ≤ n32 a - n32 b ∧ a - b = 0) := by
  have h : ∀ a, a < 10 → ∀ b, b < 10 → (n32 0 ≤ n32 a - n32 b ∧ n32 a - n32 b = n32 (a - b)) ∨ (¬ n32 0 ≤ n32 a - n32 b ∧ a - b = 0) := by decide +kernel
  exact h a ha b hb
theorem p_dried_n {R : Nat → Nat} {c wet wind : Nat} : p_dried R none c wet wind = wet - p_cl 9 (n32 wind) := rfl
theorem p_dried_s {R : Nat → Nat} {c wet wind : Nat} {l : List (Nat × Nat)} : p_dried R (some l) c wet wind = wet - p_cl 9 (p_val (p_f R c wet wind) l) := rfl
theorem t_dried_a {m : Nat} {P : mm_P} {wet : Nat} {u : Int32} (hw : wet ≤ 9) : fX5_driedOf_b63 m (n32 wet) (n32 (p_cl 9 u)) P = some (n32 (wet - p_cl 9 u), P) := by
  have h9 := p_cl_le 9 u
  generalize p_cl 9 u = k at h9 ⊢
  unfold fX5_driedOf_b63
  rw [lt_eq, show (0 : Int32) = n32 0 from rfl]
  rcases sub9 (a := wet) (b := k) (by omega) (by omega) with ⟨q1, q2⟩ | ⟨q1, q2⟩
  · rw [if_pos q1, q2]
  · rw [if_neg q1, q2]
theorem t_dried_b {m : Nat} {P : mm_P} {wet : Nat} {u : Int32} : fX5_driedOf_b37 m (n32 wet) u P = fX5_driedOf_b63 m (n32 wet) (n32 (p_cl 9 u)) P := by
  unfold fX5_driedOf_b37
  rw [show (0 : Int32) = n32 0 from rfl, show (9 : Int32) = n32 9 from rfl]
  exact cl_if (most := 9) (by decide) (fun v => fX5_driedOf_b63 m (n32 wet) v P)
theorem t_driedOf {m : Nat} {P : mm_P} {R : Nat → Nat} {cd : Option (List (Nat × Nat))} {c wet wind : Nat} (h : tR m P R) (hE : tE m P 7 cd) (hc : c < 6) (hw : wet ≤ 9) : wp (fX5_driedOf m (n32 c) (n32 wet) (n32 wind) P) (fun r => r.1 = n32 (p_dried R cd c wet wind) ∧ fr (ww m [660, 661]) P r.2) := by
  unfold fX5_driedOf
  rw [wp_bd]
  refine wp_mono (t_laysFacts h hc) fun P1 ⟨hf1, hfr1⟩ => ?_
  have hE1 := hE.fr hfr1 (by simp [ww]) (by simp [ww]) (by simp [ww])
  have hfr1' : fr (ww m [660, 661]) P P1 := hfr1.mono (fun c a q => ⟨q.1, by have := q.2; simp at this; simp [this]⟩)
  cases cd with
  | none =>
    have e6 : gA P1 650 m 7 = -n32 1 := hE1
    have f0 : gA P1 660 m (0 : Int32).toNatClampNeg = n32 wind := hf1 0 (by decide)
    have g7 : mm_in (7 : Int32) 200 := by decide
    have g0 : mm_in (0 : Int32) 3 := by decide
    have e7 : gA P1 650 m (7 : Int32).toNatClampNeg = -n32 1 := e6
    have e8 : ¬ (0 : Int32) ≤ -n32 1 := by decide
    rw [gd_pos g7, e7, if_neg e8, gd_pos g0, f0, p_dried_n, t_dried_b, t_dried_a hw]
    exact wp_some.mpr ⟨rfl, hfr1'⟩
  | some l =>
    obtain ⟨pos, a1, a2, a3⟩ := t_val (R := R) hE1 hf1
    simp (disch := omega) only [a2, gA_sA_eq, gA_sA_ne, gI_sI_eq, gI_sI_ne, gA_sI, gI_sA, gR_sA, gR_sI, gL_sA, gL_sI, gB_sA, gB_sI, gJ_sA, gJ_sI, wp_some, wp_gd, wp_bd, wp_lt, wp_ite, gd_true, gd_pos, bd_some, lt_eq, on_some, on_none, if_pos, if_neg, ne_eq, n32_add, n32_mul, n32_in, n32_cl, n32_lt, n32_le, n32_inj, n32_m1_lt, n32_m1_le, n32_lt_m1, n32_le_m1, n32_eq_m1, n32_m1_eq, not_true_eq_false, not_false_eq_true, ite_true, ite_false, Nat.add_assoc, true_and, and_true, decide_true, decide_false, Bool.and_true, Bool.true_and, Bool.and_false, Bool.false_and, Bool.not_true, Bool.not_false, Bool.false_eq_true, Nat.lt_irrefl, Nat.not_lt_zero, l_0, l_1, l_2, l_3, l_4, l_5, l_6, l_7, l_8, l_9, l_10, l_11, l_12, l_13, l_14, l_15, l_16, l_17, l_18, l_19, l_20, l_21, l_22, l_23, l_24, l_25, l_26, l_27, l_28, l_29, l_30, l_31, l_32, l_38, l_40, l_41, l_42, l_43, l_45, l_48, l_54, l_56, l_57, l_59, l_60, l_61, l_63, l_68, l_76, l_96, l_97, l_99, l_100, l_101, l_102, l_103, l_104, l_105, l_106, l_108, l_122, l_124, l_126, l_132, l_255, l_1000, l_1100, l_1134, l_1135, l_1148, l_1154, l_1188, l_1202, l_9999]
    refine wp_mono a3 fun r ⟨b1, b2⟩ => ?_
    rw [b1, p_dried_s, t_dried_b, t_dried_a hw]
    exact wp_some.mpr ⟨rfl, hfr1'.trans (b2.mono (fun c a q => ⟨q.1, by have := q.2; simp at this; simp [this]⟩))⟩
/-! what the reference does to a state: at base b, the rest of the region as it was -/
def tU (m : Nat) (P : mm_P) (b : Nat) (P' : mm_P) : Prop := fr (ww m [660, 661, 662]) P P' ∧ ∀ x, x < b → gA P' 662 m x = gA P 662 m x
theorem tU.refl (m : Nat) (P : mm_P) (b : Nat) : tU m P b P := ⟨fr_refl _ _, fun _ _ => rfl⟩
theorem tU.trans {m b : Nat} {P P1 P2 : mm_P} (h1 : tU m P b P1) (h2 : tU m P1 b P2) : tU m P b P2 := ⟨h1.1.trans h2.1, fun x hx => (h2.2 x hx).trans (h1.2 x hx)⟩
theorem tU.put {m b i : Nat} {P P1 : mm_P} {v : Int32} (h1 : tU m P b P1) : tU m P b (sA P1 662 m (b + i) v) := ⟨fr_sA h1.1 ⟨rfl, by decide⟩, fun x hx => (gA_sA_ne (by omega)).trans (h1.2 x hx)⟩
theorem tU.fr {m b : Nat} {P P1 P2 : mm_P} (h1 : tU m P b P1) (h2 : fr (ww m [660, 661]) P1 P2) : tU m P b P2 := ⟨h1.1.trans (h2.mono (fun c a q => ⟨q.1, by have := q.2; simp at this; simp; omega⟩)), fun x hx => ((h2 662 m (by simp [ww])).2.2.2.1 x).trans (h1.2 x hx)⟩
theorem tU.tR {m b : Nat} {P P' : mm_P} {R : Nat → Nat} (h : tU m P b P') (hR : tR m P R) : tR m P' R := hR.fr h.1 (by simp [ww])
theorem tU.tE {m b j : Nat} {P P' : mm_P} {cp : Option (List (Nat × Nat))} (h : tU m P b P') (hE : tE m P j cp) : tE m P' j cp := hE.fr h.1 (by simp [ww]) (by simp [ww]) (by simp [ww])
theorem tS.up {m b i v : Nat} {P : mm_P} {S : Nat → Nat} (h : tS m P b S) (hv : v ≤ 1048576) : tS m (sA P 662 m (b + i) (n32 v)) b (up S i v) := by
  refine ⟨fun j hj => ?_, fun j => ?_⟩
  · by_cases e : j = i
    · rw [e, gA_sA_eq ⟨rfl, rfl, rfl⟩, up_eq rfl]
    · rw [gA_sA_ne (by omega), up_ne e]
      exact h.1 j hj
  · by_cases e : j = i
    · rw [up_eq e]
      exact hv
    · rw [up_ne e]
      exact h.2 j
theorem t_falls {m b c : Nat} {P : mm_P} {S : Nat → Nat} (hS : tS m P b S) (hb : b + 28 ≤ 1242) (hc : c < 6) (h9 : S (8 + c) ≤ 9) : wp (fX5_falls m (n32 b) (n32 c) P) (fun P' => tS m P' b (p_fall S c) ∧ tU m P b P') := by
  have h1 := (hS.up (i := 14 + c) (v := 0) (by decide)).up (i := 2 + c) (v := 9) (by decide)
  have hS2 := h1.1 (8 + c) (by omega)
  have e8 : up (up S (14 + c) 0) (2 + c) 9 (8 + c) = S (8 + c) := by rw [up_ne (by omega), up_ne (by omega)]
  rw [e8] at hS2
  have hU := ((tU.refl m P b).put (i := 14 + c) (v := n32 0)).put (i := 2 + c) (v := n32 9)
  by_cases q : S (8 + c) = 9
  · rw [q] at hS2
    simp (disch := omega) only [fX5_falls, hS2, wp_some, gd_true, gd_pos, bd_some, lt_eq, on_some, on_none, if_pos, if_neg, ne_eq, n32_add, n32_mul, n32_in, n32_cl, n32_lt, n32_le, n32_inj, n32_m1_lt, n32_m1_le, n32_lt_m1, n32_le_m1, n32_eq_m1, n32_m1_eq, not_true_eq_false, not_false_eq_true, ite_true, ite_false, Nat.add_assoc, true_and, and_true, decide_true, decide_false, Bool.and_true, Bool.true_and, Bool.and_false, Bool.false_and, Bool.not_true, Bool.not_false, Bool.false_eq_true, Nat.lt_irrefl, Nat.not_lt_zero, l_0, l_1, l_2, l_3, l_4, l_5, l_6, l_7, l_8, l_9, l_10, l_11, l_12, l_13, l_14, l_15, l_16, l_17, l_18, l_19, l_20, l_21, l_22, l_23, l_24, l_25, l_26, l_27, l_28, l_29, l_30, l_31, l_32, l_38, l_40, l_41, l_42, l_43, l_45, l_48, l_54, l_56, l_57, l_59, l_60, l_61, l_63, l_68, l_76, l_96, l_97, l_99, l_100, l_101, l_102, l_103, l_104, l_105, l_106, l_108, l_122, l_124, l_126, l_132, l_255, l_1000, l_1100, l_1134, l_1135, l_1148, l_1154, l_1188, l_1202, l_9999]
    refine ⟨?_, hU.put⟩
    unfold p_fall
    rw [q]
    exact h1.up (by decide)
  · simp (disch := omega) only [fX5_falls, hS2, wp_some, gd_true, gd_pos, bd_some, lt_eq, on_some, on_none, if_pos, if_neg, ne_eq, n32_add, n32_mul, n32_in, n32_cl, n32_lt, n32_le, n32_inj, n32_m1_lt, n32_m1_le, n32_lt_m1, n32_le_m1, n32_eq_m1, n32_m1_eq, not_true_eq_false, not_false_eq_true, ite_true, ite_false, Nat.add_assoc, true_and, and_true, decide_true, decide_false, Bool.and_true, Bool.true_and, Bool.and_false, Bool.false_and, Bool.not_true, Bool.not_false, Bool.false_eq_true, Nat.lt_irrefl, Nat.not_lt_zero, l_0, l_1, l_2, l_3, l_4, l_5, l_6, l_7, l_8, l_9, l_10, l_11, l_12, l_13, l_14, l_15, l_16, l_17, l_18, l_19, l_20, l_21, l_22, l_23, l_24, l_25, l_26, l_27, l_28, l_29, l_30, l_31, l_32, l_38, l_40, l_41, l_42, l_43, l_45, l_48, l_54, l_56, l_57, l_59, l_60, l_61, l_63, l_68, l_76, l_96, l_97, l_99, l_100, l_101, l_102, l_103, l_104, l_105, l_106, l_108, l_122, l_124, l_126, l_132, l_255, l_1000, l_1100, l_1134, l_1135, l_1148, l_1154, l_1188, l_1202, l_9999]
    refine ⟨?_, hU.put⟩
    unfold p_fall
    rw [show min 9 (S (8 + c) + 1) = S (8 + c) + 1 by omega]
    exact h1.up (by omega)
theorem t_loosens {m b x : Nat} {P : mm_P} {S : Nat → Nat} (hS : tS m P b S) (hb : b + 28 ≤ 1242) (hx : x < 256) : wp (fX5_loosens m (n32 b) (n32 x) P) (fun P' => tS m P' b (p_loose S x) ∧ tU m P b P') := by
  refine wp_loop0 (L := fun n k s => fX5_loosens_b2 m n (n32 b) (n32 x) (n32 k) s) (fun k P' => tS m P' b (fun j => if 20 ≤ j ∧ j < 20 + k ∧ x.testBit (j - 20) = true then S j - 1 else S j) ∧ tU m P b P') 8 (by decide) ?_ ?_ ?_
  · refine ⟨?_, tU.refl m P b⟩
    have e : (fun j => if 20 ≤ j ∧ j < 20 + 0 ∧ x.testBit (j - 20) = true then S j - 1 else S j) = S := by
      funext j
      rw [if_neg (by omega)]
    rw [e]
    exact hS
  · intro n k P1 hk ⟨h1, hU⟩ ih
    have hb2 := hS.2
    have hS1 : gA P1 662 m (b + (20 + k)) = n32 (S (20 + k)) := (h1.1 (20 + k) (by omega)).trans (congrArg n32 (if_neg (by omega)))
    have hSb := h1.2
    -- the turn's write
    have key : ∀ v, v = (if x.testBit k = true then S (20 + k) - 1 else S (20 + k)) → tS m (sA P1 662 m (b + (20 + k)) (n32 v)) b (fun j => if 20 ≤ j ∧ j < 20 + (k + 1) ∧ x.testBit (j - 20) = true then S j - 1 else S j) := by
      intro v hv
      have h2 := h1.up (i := 20 + k) (v := v) (by have := hb2 (20 + k); split at hv <;> omega)
      have e : up (fun j => if 20 ≤ j ∧ j < 20 + k ∧ x.testBit (j - 20) = true then S j - 1 else S j) (20 + k) v = (fun j => if 20 ≤ j ∧ j < 20 + (k + 1) ∧ x.testBit (j - 20) = true then S j - 1 else S j) := by
        funext j
        by_cases e : j = 20 + k
        · subst e
          rw [up_eq rfl, hv]
          cases q : x.testBit k with
          | true => rw [if_pos rfl, if_pos ⟨by omega, by omega, by rw [Nat.add_sub_cancel_left]; exact q⟩]
          | false => rw [if_neg (by decide), if_neg (by rw [Nat.add_sub_cancel_left, q]; simp)]
        · rw [up_ne e]
          by_cases q : 20 ≤ j ∧ j < 20 + k ∧ x.testBit (j - 20) = true
          · rw [if_pos q, if_pos ⟨q.1, by omega, q.2.2⟩]
          · rw [if_neg q, if_neg (fun z => q ⟨z.1, by omega, z.2.2⟩)]
      rw [← e]
      exact h2
    have hSk := hb2 (20 + k)
    cases q : x.testBit k with
    | true =>
      by_cases q0 : S (20 + k) = 0
      · rw [q0] at hS1
        simp (disch := omega) only [fX5_loosens_b2, n32_bit, bt, q, hS1, n32_sub, gd_true, gd_pos, bd_some, lt_eq, on_some, on_none, if_pos, if_neg, ne_eq, n32_add, n32_mul, n32_in, n32_cl, n32_lt, n32_le, n32_inj, n32_m1_lt, n32_m1_le, n32_lt_m1, n32_le_m1, n32_eq_m1, n32_m1_eq, not_true_eq_false, not_false_eq_true, ite_true, ite_false, Nat.add_assoc, true_and, and_true, decide_true, decide_false, Bool.and_true, Bool.true_and, Bool.and_false, Bool.false_and, Bool.not_true, Bool.not_false, Bool.false_eq_true, Nat.lt_irrefl, Nat.not_lt_zero, l_0, l_1, l_2, l_3, l_4, l_5, l_6, l_7, l_8, l_9, l_10, l_11, l_12, l_13, l_14, l_15, l_16, l_17, l_18, l_19, l_20, l_21, l_22, l_23, l_24, l_25, l_26, l_27, l_28, l_29, l_30, l_31, l_32, l_38, l_40, l_41, l_42, l_43, l_45, l_48, l_54, l_56, l_57, l_59, l_60, l_61, l_63, l_68, l_76, l_96, l_97, l_99, l_100, l_101, l_102, l_103, l_104, l_105, l_106, l_108, l_122, l_124, l_126, l_132, l_255, l_1000, l_1100, l_1134, l_1135, l_1148, l_1154, l_1188, l_1202, l_9999]
        exact ih _ ⟨key 0 (by rw [q, if_pos rfl, q0]), hU.put⟩
      · simp (disch := omega) only [fX5_loosens_b2, n32_bit, bt, q, hS1, n32_sub, gd_true, gd_pos, bd_some, lt_eq, on_some, on_none, if_pos, if_neg, ne_eq, n32_add, n32_mul, n32_in, n32_cl, n32_lt, n32_le, n32_inj, n32_m1_lt, n32_m1_le, n32_lt_m1, n32_le_m1, n32_eq_m1, n32_m1_eq, not_true_eq_false, not_false_eq_true, ite_true, ite_false, Nat.add_assoc, true_and, and_true, decide_true, decide_false, Bool.and_true, Bool.true_and, Bool.and_false, Bool.false_and, Bool.not_true, Bool.not_false, Bool.false_eq_true, Nat.lt_irrefl, Nat.not_lt_zero, l_0, l_1, l_2, l_3, l_4, l_5, l_6, l_7, l_8, l_9, l_10, l_11, l_12, l_13, l_14, l_15, l_16, l_17, l_18, l_19, l_20, l_21, l_22, l_23, l_24, l_25, l_26, l_27, l_28, l_29, l_30, l_31, l_32, l_38, l_40, l_41, l_42, l_43, l_45, l_48, l_54, l_56, l_57, l_59, l_60, l_61, l_63, l_68, l_76, l_96, l_97, l_99, l_100, l_101, l_102, l_103, l_104, l_105, l_106, l_108, l_122, l_124, l_126, l_132, l_255, l_1000, l_1100, l_1134, l_1135, l_1148, l_1154, l_1188, l_1202, l_9999]
        exact ih _ ⟨key (S (20 + k) - 1) (by rw [q, if_pos rfl]), hU.put⟩
    | false =>
      simp (disch := omega) only [fX5_loosens_b2, n32_bit, bt, q, hS1, n32_sub, gd_true, gd_pos, bd_some, lt_eq, on_some, on_none, if_pos, if_neg, ne_eq, n32_add, n32_mul, n32_in, n32_cl, n32_lt, n32_le, n32_inj, n32_m1_lt, n32_m1_le, n32_lt_m1, n32_le_m1, n32_eq_m1, n32_m1_eq, not_true_eq_false, not_false_eq_true, ite_true, ite_false, Nat.add_assoc, true_and, and_true, decide_true, decide_false, Bool.and_true, Bool.true_and, Bool.and_false, Bool.false_and, Bool.not_true, Bool.not_false, Bool.false_eq_true, Nat.lt_irrefl, Nat.not_lt_zero, l_0, l_1, l_2, l_3, l_4, l_5, l_6, l_7, l_8, l_9, l_10, l_11, l_12, l_13, l_14, l_15, l_16, l_17, l_18, l_19, l_20, l_21, l_22, l_23, l_24, l_25, l_26, l_27, l_28, l_29, l_30, l_31, l_32, l_38, l_40, l_41, l_42, l_43, l_45, l_48, l_54, l_56, l_57, l_59, l_60, l_61, l_63, l_68, l_76, l_96, l_97, l_99, l_100, l_101, l_102, l_103, l_104, l_105, l_106, l_108, l_122, l_124, l_126, l_132, l_255, l_1000, l_1100, l_1134, l_1135, l_1148, l_1154, l_1188, l_1202, l_9999]
      exact ih _ ⟨key (S (20 + k)) (by rw [q, if_neg (by decide)]), hU.put⟩
  · intro n P1 ⟨h1, hU⟩
    simp (disch := omega) only [fX5_loosens_b2, wp_some, gd_true, gd_pos, bd_some, lt_eq, on_some, on_none, if_pos, if_neg, ne_eq, n32_add, n32_mul, n32_in, n32_cl, n32_lt, n32_le, n32_inj, n32_m1_lt, n32_m1_le, n32_lt_m1, n32_le_m1, n32_eq_m1, n32_m1_eq, not_true_eq_false, not_false_eq_true, ite_true, ite_false, Nat.add_assoc, true_and, and_true, decide_true, decide_false, Bool.and_true, Bool.true_and, Bool.and_false, Bool.false_and, Bool.not_true, Bool.not_false, Bool.false_eq_true, Nat.lt_irrefl, Nat.not_lt_zero, l_0, l_1, l_2, l_3, l_4, l_5, l_6, l_7, l_8, l_9, l_10, l_11, l_12, l_13, l_14, l_15, l_16, l_17, l_18, l_19, l_20, l_21, l_22, l_23, l_24, l_25, l_26, l_27, l_28, l_29, l_30, l_31, l_32, l_38, l_40, l_41, l_42, l_43, l_45, l_48, l_54, l_56, l_57, l_59, l_60, l_61, l_63, l_68, l_76, l_96, l_97, l_99, l_100, l_101, l_102, l_103, l_104, l_105, l_106, l_108, l_122, l_124, l_126, l_132, l_255, l_1000, l_1100, l_1134, l_1135, l_1148, l_1154, l_1188, l_1202, l_9999]
    exact ⟨h1, hU⟩
