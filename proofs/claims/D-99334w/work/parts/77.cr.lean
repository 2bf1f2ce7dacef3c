/-! THE COMPONENT's rope: what the objects hold, in the reference's row R; expressions as codes. -/
set_option maxRecDepth 100000
/-- an expression of depth at most d at a, as codes -/
def cX (K : mm_K) (P : mm_P) (N : Nat) : Nat → Nat → List (Nat × Nat) → Prop
  | 0, _, _ => False
  | d + 1, a, l => a < N ∧ ((K.1 a = 11 ∧ ∃ n, gI P 1408 a = n32 n ∧ l = [(1, n)]) ∨ (K.1 a = 12 ∧ ∃ n, n < 3 ∧ gI P 1536 a = n32 n ∧ l = [(2, n)]) ∨
    (K.1 a = 13 ∧ ∃ b l1, gR P 1664 a = some b ∧ cX K P N d b l1 ∧ l = l1 ++ [(3, 0)]) ∨
    (K.1 a = 14 ∧ ∃ b1 b2 l1 l2 k w, gR P 1793 a = some b1 ∧ gR P 1794 a = some b2 ∧ cX K P N d b1 l1 ∧ cX K P N d b2 l2 ∧ gI P 1792 a = n32 w ∧ (w, k) ∈ [(43, 4), (45, 5), (42, 6), (60, 7), (61, 8), (38, 9), (124, 10)] ∧ l = l1 ++ (l2 ++ [(k, 0)])))
def cE (K : mm_K) (P : mm_P) (N : Nat) (o : Option Nat) (cp : Option (List (Nat × Nat))) : Prop := match o, cp with
  | none, none => True
  | some a, some l => cX K P N 600 a l
  | _, _ => False
theorem p_run_app (f : Nat → Int32) : ∀ (l1 l2 : List (Nat × Nat)) (st : List Int32), p_run f (l1 ++ l2) st = p_run f l2 (p_run f l1 st) := by
  intro l1
  induction l1 with
  | nil => intro l2 st; rfl
  | cons q l ih => intro l2 st; exact ih l2 (p_st f q st)
theorem p_okN_cons (q : Nat × Nat) (l : List (Nat × Nat)) (n : Nat) : p_okN (q :: l) n = if q.1 = 1 then p_okN l (n + 1) else if q.1 = 2 then (if q.2 < 3 then p_okN l (n + 1) else none) else if q.1 = 3 then (if 1 ≤ n then p_okN l n else none) else if 4 ≤ q.1 ∧ q.1 ≤ 10 ∧ 2 ≤ n then p_okN l (n - 1) else none := rfl
theorem p_okN_app : ∀ (l1 l2 : List (Nat × Nat)) (n k : Nat), p_okN l1 n = some k → p_okN (l1 ++ l2) n = p_okN l2 k := by
  intro l1
  induction l1 with
  | nil => intro l2 n k h; cases h; rfl
  | cons q l ih =>
    intro l2 n k h
    rw [p_okN_cons] at h
    rw [List.cons_append, p_okN_cons]
    by_cases c1 : q.1 = 1
    · rw [if_pos c1] at h ⊢
      exact ih _ _ _ h
    · rw [if_neg c1] at h ⊢
      by_cases c2 : q.1 = 2
      · rw [if_pos c2] at h ⊢
        by_cases c3 : q.2 < 3
        · rw [if_pos c3] at h ⊢
          exact ih _ _ _ h
        · rw [if_neg c3] at h
          cases h
      · rw [if_neg c2] at h ⊢
        by_cases c3 : q.1 = 3
        · rw [if_pos c3] at h ⊢
          by_cases c4 : 1 ≤ n
          · rw [if_pos c4] at h ⊢
            exact ih _ _ _ h
          · rw [if_neg c4] at h
            cases h
        · rw [if_neg c3] at h ⊢
          by_cases c4 : 4 ≤ q.1 ∧ q.1 ≤ 10 ∧ 2 ≤ n
          · rw [if_pos c4] at h ⊢
            exact ih _ _ _ h
          · rw [if_neg c4] at h
            cases h
/-- an expression's codes put its value on the pile -/
theorem c_worked {K : mm_K} {P : mm_P} {px N : Nat} {f : Nat → Int32} (hf : ∀ i, i < 3 → gA P 134 px i = f i) : ∀ (d a : Nat) (l : List (Nat × Nat)) (n : Nat), cX K P N d a l → d ≤ n → ∃ v, fV_worked K P px n a = some v ∧ (∀ st, p_run f l st = v :: st) ∧ ∀ k, p_okN l k = some (k + 1) := by
  intro d
  induction d with
  | zero => intro a l n h; exact h.elim
  | succ d ih =>
    intro a l n h hn
    obtain ⟨n, rfl⟩ : ∃ n', n = n' + 1 := ⟨n - 1, by omega⟩
    obtain ⟨-, h⟩ := h
    rcases h with ⟨hk, x, hx, rfl⟩ | ⟨hk, x, hx3, hx, rfl⟩ | ⟨hk, b, l1, hb, h1, rfl⟩ | ⟨hk, b1, b2, l1, l2, k, w, e1, e2, h1, h2, hw, hm, rfl⟩
    · refine ⟨n32 x, ?_, fun st => rfl, fun k => rfl⟩
      unfold fV_worked
      rw [if_pos hk, fX12_worked, hx]
    · refine ⟨f x, ?_, fun st => rfl, fun k => ?_⟩
      · unfold fV_worked
        rw [if_neg (by omega), if_pos hk]
        simp (disch := omega) only [fX13_worked, hx, hf, gd_true, gd_pos, bd_some, lt_eq, on_some, on_none, if_pos, if_neg, ne_eq, n32_add, n32_mul, n32_in, n32_cl, n32_lt, n32_le, n32_inj, n32_m1_lt, n32_m1_le, n32_lt_m1, n32_le_m1, n32_eq_m1, n32_m1_eq, not_true_eq_false, not_false_eq_true, ite_true, ite_false, Nat.add_assoc, true_and, and_true, decide_true, decide_false, Bool.and_true, Bool.true_and, Bool.and_false, Bool.false_and, Bool.not_true, Bool.not_false, Bool.false_eq_true, Nat.lt_irrefl, Nat.not_lt_zero, l_0, l_1, l_2, l_3, l_4, l_5, l_6, l_7, l_8, l_9, l_10, l_11, l_12, l_13, l_14, l_15, l_16, l_17, l_18, l_19, l_20, l_21, l_22, l_23, l_24, l_25, l_26, l_27, l_28, l_29, l_30, l_31, l_32, l_38, l_40, l_41, l_42, l_43, l_45, l_48, l_54, l_56, l_57, l_59, l_60, l_61, l_63, l_68, l_76, l_96, l_97, l_99, l_100, l_101, l_102, l_103, l_104, l_105, l_106, l_108, l_122, l_124, l_126, l_132, l_255, l_1000, l_1100, l_1134, l_1135, l_1148, l_1154, l_1188, l_1202, l_9999]
      · show (if x < 3 then _ else none) = _
        rw [if_pos hx3]
        rfl
    · obtain ⟨v, g1, g2, g3⟩ := ih b l1 n h1 (by omega)
      refine ⟨b2 (decide (v = n32 0)), ?_, fun st => ?_, fun k => ?_⟩
      · unfold fV_worked
        rw [if_neg (by omega), if_neg (by omega), if_pos hk, fX14_worked, hb, bd_some, g1, bd_some]
        show (if v ≠ n32 0 then some (n32 0) else some (n32 1)) = _
        by_cases q : v = n32 0
        · rw [if_neg (fun z => z q), decide_eq_true q]
          rfl
        · rw [if_pos q, decide_eq_false q]
          rfl
      · rw [p_run_app, g2]
        rfl
      · rw [p_okN_app _ _ _ _ (g3 k)]
        show (if 1 ≤ k + 1 then some (k + 1) else none) = _
        rw [if_pos (by omega)]
    · obtain ⟨v1, g1, g2, g3⟩ := ih b1 l1 n h1 (by omega)
      obtain ⟨v2, i1, i2, i3⟩ := ih b2 l2 n h2 (by omega)
      refine ⟨p_both k v1 v2, ?_, fun st => ?_, fun j => ?_⟩
      · unfold fV_worked
        rw [if_neg (by omega), if_neg (by omega), if_neg (by omega), if_pos hk, fX15_worked, e1, bd_some, g1, bd_some, e2, bd_some, i1, bd_some, hw, lt_eq]
        simp only [List.mem_cons, Prod.mk.injEq, List.mem_nil_iff, or_false] at hm
        rcases hm with ⟨rfl, rfl⟩ | ⟨rfl, rfl⟩ | ⟨rfl, rfl⟩ | ⟨rfl, rfl⟩ | ⟨rfl, rfl⟩ | ⟨rfl, rfl⟩ | ⟨rfl, rfl⟩
        · rfl
        · rfl
        · rfl
        · exact t_both (k := 7) (a := v1) (b := v2) (by decide)
        · exact t_both (k := 8) (a := v1) (b := v2) (by decide)
        · exact t_both (k := 9) (a := v1) (b := v2) (by decide)
        · exact t_both (k := 10) (a := v1) (b := v2) (by decide)
      · rw [p_run_app, g2, p_run_app, i2]
        show p_st f (k, 0) (v2 :: v1 :: st) = _
        simp only [List.mem_cons, Prod.mk.injEq, List.mem_nil_iff, or_false] at hm
        rcases hm with ⟨rfl, rfl⟩ | ⟨rfl, rfl⟩ | ⟨rfl, rfl⟩ | ⟨rfl, rfl⟩ | ⟨rfl, rfl⟩ | ⟨rfl, rfl⟩ | ⟨rfl, rfl⟩ <;> rfl
      · rw [p_okN_app _ _ _ _ (g3 j), p_okN_app _ _ _ _ (i3 (j + 1))]
        simp only [List.mem_cons, Prod.mk.injEq, List.mem_nil_iff, or_false] at hm
        rcases hm with ⟨rfl, rfl⟩ | ⟨rfl, rfl⟩ | ⟨rfl, rfl⟩ | ⟨rfl, rfl⟩ | ⟨rfl, rfl⟩ | ⟨rfl, rfl⟩ | ⟨rfl, rfl⟩ <;> (unfold p_okN; simp [p_okN])
/-- a cloth, the c-th of the rope -/
def cK (K : mm_K) (P : mm_P) (R : Nat → Nat) (c o : Nat) : Prop := K.1 o = 7 + p_kd R c ∧ p_kd R c < 4 ∧ gI P 897 o = n32 (p_wd R c) ∧ gI P 898 o = n32 (p_wt R c) ∧ gI P 899 o = n32 (p_wo R c)
/-- the rope at ro -/
def cR (K : mm_K) (P : mm_P) (N : Nat) (ro : Nat) (R : Nat → Nat) (cp cd : Option (List (Nat × Nat))) : Prop :=
  ro < N ∧ K.1 ro = 3 ∧ gI P 388 ro = n32 (R 1) ∧ (∀ p, p < R 1 → gA P 385 ro p = n32 (R (68 + p))) ∧
  ((gI P 389 ro = n32 0 ∧ R 2 = 1 ∧ R 76 = 3) ∨ (gI P 389 ro = n32 (R 2) ∧ R 2 ≠ 0 ∧ ∀ h, h < R 2 → gA P 386 ro h = n32 (R (76 + h)))) ∧
  ((gI P 391 ro = -n32 1 ∧ R 3 = 20) ∨ gI P 391 ro = n32 (R 3)) ∧ ((gI P 392 ro = -n32 1 ∧ R 4 = 0) ∨ gI P 392 ro = n32 (R 4)) ∧ gI P 390 ro = n32 (R 5) ∧
  (∀ c, c < 6 → gA P 387 ro c = n32 (qk (fun e => decide (R (32 + (6 * c + e)) = 1)) 6)) ∧ cE K P N (gR P 393 ro) cp ∧ cE K P N (gR P 394 ro) cd ∧
  ∃ li ar, gR P 384 ro = some li ∧ li < N ∧ ar < N ∧ K.1 li = 21 ∧ gI P 2690 li = n32 (R 0) ∧ gR P 2689 li = some ar ∧ K.1 ar = 68 ∧ R 0 ≤ K.2 ar ∧ ∀ c, c < R 0 → ∃ o, gB P 8196 ar c = some o ∧ o < N ∧ cK K P R c o
/-- the component at px has this rope -/
def cP (K : mm_K) (P : mm_P) (N : Nat) (px : Nat) (R : Nat → Nat) (cp cd : Option (List (Nat × Nat))) : Prop := ∃ ro, gR P 130 px = some ro ∧ cR K P N ro R cp cd
theorem c_cloths {K : mm_K} {P : mm_P} {px N : Nat} {R : Nat → Nat} {cp cd : Option (List (Nat × Nat))} (h : cP K P N px R cp cd) : fX1_cloths K px P = some (n32 (R 0)) := by
  obtain ⟨ro, h1, -, hk, -, -, -, -, -, -, -, -, -, li, ar, h2, -, -, h3, h4, -⟩ := h
  simp (disch := omega) only [fX1_cloths, h1, hk, h2, h3, fJ2_size, h4, gd_true, gd_pos, bd_some, lt_eq, on_some, on_none, if_pos, if_neg, ne_eq, n32_add, n32_mul, n32_in, n32_cl, n32_lt, n32_le, n32_inj, n32_m1_lt, n32_m1_le, n32_lt_m1, n32_le_m1, n32_eq_m1, n32_m1_eq, not_true_eq_false, not_false_eq_true, ite_true, ite_false, Nat.add_assoc, true_and, and_true, decide_true, decide_false, Bool.and_true, Bool.true_and, Bool.and_false, Bool.false_and, Bool.not_true, Bool.not_false, Bool.false_eq_true, Nat.lt_irrefl, Nat.not_lt_zero, l_0, l_1, l_2, l_3, l_4, l_5, l_6, l_7, l_8, l_9, l_10, l_11, l_12, l_13, l_14, l_15, l_16, l_17, l_18, l_19, l_20, l_21, l_22, l_23, l_24, l_25, l_26, l_27, l_28, l_29, l_30, l_31, l_32, l_38, l_40, l_41, l_42, l_43, l_45, l_48, l_54, l_56, l_57, l_59, l_60, l_61, l_63, l_68, l_76, l_96, l_97, l_99, l_100, l_101, l_102, l_103, l_104, l_105, l_106, l_108, l_122, l_124, l_126, l_132, l_255, l_1000, l_1100, l_1134, l_1135, l_1148, l_1154, l_1188, l_1202, l_9999]
theorem c_isCloth {K : mm_K} {P : mm_P} {px N : Nat} {R : Nat → Nat} {cp cd : Option (List (Nat × Nat))} (h : cP K P N px R cp cd) (h6 : R 0 ≤ 6) {x : Int32} : fX1_isCloth K px P x = some (if x < n32 0 ∨ n32 (R 0) ≤ x then n32 0 else n32 1) := by
  unfold fX1_isCloth
  rw [c_cloths h, bd_some, c_in, bd_some, show (0 : Int32) = n32 0 from rfl, show (1 : Int32) = n32 1 from rfl]
  have e : (x < n32 0 ∨ n32 (R 0) - n32 1 < x) ↔ (x < n32 0 ∨ n32 (R 0) ≤ x) := by
    have hs : (n32 (R 0) - n32 1).toInt = (R 0 : Int) - 1 := by
      have h : ∀ k, k < 7 → (n32 k - n32 1).toInt = (k : Int) - 1 := by decide +kernel
      exact h _ (by omega)
    have z1 := n32_ti (a := R 0) (by omega)
    have z2 := n32_ti (a := 0) (by decide)
    rw [Int32.lt_iff_toInt_lt, Int32.lt_iff_toInt_lt, Int32.le_iff_toInt_le, hs, z1, z2]
    omega
  by_cases q : x < n32 0 ∨ n32 (R 0) ≤ x
  · rw [if_pos q, if_pos (e.mpr q)]
    rfl
  · rw [if_neg q, if_neg (fun z => q (e.mp z))]
    rfl
theorem c_cloth2 {K : mm_K} {P : mm_P} {px c N : Nat} {R : Nat → Nat} {cp cd : Option (List (Nat × Nat))} (h : cP K P N px R cp cd) (h6 : R 0 ≤ 6) (hc : c < R 0) : ∃ o, fX1_cloth_2 K px P (n32 c) = some o ∧ cK K P R c o := by
  obtain ⟨ro, h1, -, hk, -, -, -, -, -, -, -, -, -, li, ar, h2, -, -, h3, h4, h5, h7, h8, h9⟩ := h
  obtain ⟨o, ho, -, hco⟩ := h9 c hc
  refine ⟨o, ?_, hco⟩
  have hC : mm_isC (K.1 o) := by
    obtain ⟨k1, k2, -⟩ := hco
    unfold mm_isC
    omega
  simp (disch := omega) only [fX1_cloth_2, h1, hk, h2, h3, fJ2_get, h4, fJ16_checkIndex, fJ7_checkIndex, fJ2_elementData, h5, h7, ho, gd_pos hC, gd_true, gd_pos, bd_some, lt_eq, on_some, on_none, if_pos, if_neg, ne_eq, n32_add, n32_mul, n32_in, n32_cl, n32_lt, n32_le, n32_inj, n32_m1_lt, n32_m1_le, n32_lt_m1, n32_le_m1, n32_eq_m1, n32_m1_eq, not_true_eq_false, not_false_eq_true, ite_true, ite_false, Nat.add_assoc, true_and, and_true, decide_true, decide_false, Bool.and_true, Bool.true_and, Bool.and_false, Bool.false_and, Bool.not_true, Bool.not_false, Bool.false_eq_true, Nat.lt_irrefl, Nat.not_lt_zero, l_0, l_1, l_2, l_3, l_4, l_5, l_6, l_7, l_8, l_9, l_10, l_11, l_12, l_13, l_14, l_15, l_16, l_17, l_18, l_19, l_20, l_21, l_22, l_23, l_24, l_25, l_26, l_27, l_28, l_29, l_30, l_31, l_32, l_38, l_40, l_41, l_42, l_43, l_45, l_48, l_54, l_56, l_57, l_59, l_60, l_61, l_63, l_68, l_76, l_96, l_97, l_99, l_100, l_101, l_102, l_103, l_104, l_105, l_106, l_108, l_122, l_124, l_126, l_132, l_255, l_1000, l_1100, l_1134, l_1135, l_1148, l_1154, l_1188, l_1202, l_9999]
theorem cK.c {K : mm_K} {P : mm_P} {R : Nat → Nat} {c o : Nat} (h : cK K P R c o) : mm_isC (K.1 o) := by
  obtain ⟨k1, k2, -⟩ := h
  unfold mm_isC
  omega
theorem cK.kd {K : mm_K} {P : mm_P} {R : Nat → Nat} {c o : Nat} (h : cK K P R c o) : fV_kind K o = some (n32 (p_kd R c)) := by
  obtain ⟨k1, k2, -⟩ := h
  unfold fV_kind
  have e : p_kd R c = 0 ∨ p_kd R c = 1 ∨ p_kd R c = 2 ∨ p_kd R c = 3 := by omega
  rcases e with e | e | e | e <;> rw [e] at k1 ⊢ <;> simp [k1] <;> rfl
theorem cK.nd {K : mm_K} {P : mm_P} {R : Nat → Nat} {c o : Nat} (h : cK K P R c o) : fV_needs K o = some (n32 (p_nd R c)) := by
  obtain ⟨k1, k2, -⟩ := h
  unfold fV_needs p_nd
  have e : p_kd R c = 0 ∨ p_kd R c = 1 ∨ p_kd R c = 2 ∨ p_kd R c = 3 := by omega
  rcases e with e | e | e | e <;> rw [e] at k1 ⊢ <;> simp [k1] <;> rfl
theorem cK.ms {K : mm_K} {P : mm_P} {R : Nat → Nat} {c o wet : Nat} (h : cK K P R c o) : fV_mass K P o (n32 wet) = some (n32 (p_mass R c wet)) := by
  obtain ⟨k1, k2, k3, k4, k5⟩ := h
  unfold fV_mass p_mass
  have e : p_kd R c = 0 ∨ p_kd R c = 1 ∨ p_kd R c = 2 ∨ p_kd R c = 3 := by omega
  rcases e with e | e | e | e <;> rw [e] at k1 ⊢ <;> simp (disch := omega) only [k1, fX7_mass, fX10_mass, k4, Nat.reduceAdd, Nat.reduceEqDiff, gd_true, gd_pos, bd_some, lt_eq, on_some, on_none, if_pos, if_neg, ne_eq, n32_add, n32_mul, n32_in, n32_cl, n32_lt, n32_le, n32_inj, n32_m1_lt, n32_m1_le, n32_lt_m1, n32_le_m1, n32_eq_m1, n32_m1_eq, not_true_eq_false, not_false_eq_true, ite_true, ite_false, Nat.add_assoc, true_and, and_true, decide_true, decide_false, Bool.and_true, Bool.true_and, Bool.and_false, Bool.false_and, Bool.not_true, Bool.not_false, Bool.false_eq_true, Nat.lt_irrefl, Nat.not_lt_zero, l_0, l_1, l_2, l_3, l_4, l_5, l_6, l_7, l_8, l_9, l_10, l_11, l_12, l_13, l_14, l_15, l_16, l_17, l_18, l_19, l_20, l_21, l_22, l_23, l_24, l_25, l_26, l_27, l_28, l_29, l_30, l_31, l_32, l_38, l_40, l_41, l_42, l_43, l_45, l_48, l_54, l_56, l_57, l_59, l_60, l_61, l_63, l_68, l_76, l_96, l_97, l_99, l_100, l_101, l_102, l_103, l_104, l_105, l_106, l_108, l_122, l_124, l_126, l_132, l_255, l_1000, l_1100, l_1134, l_1135, l_1148, l_1154, l_1188, l_1202, l_9999] <;> simp [Nat.mul_comm]
theorem cK.pd {K : mm_K} {P : mm_P} {R : Nat → Nat} {c o v : Nat} (h : cK K P R c o) : fV_pulled K o (n32 v) = some (n32 (if p_kd R c = 2 then 2 * v else v)) := by
  obtain ⟨k1, k2, k3, k4, k5⟩ := h
  unfold fV_pulled
  have e : p_kd R c = 0 ∨ p_kd R c = 1 ∨ p_kd R c = 2 ∨ p_kd R c = 3 := by omega
  rcases e with e | e | e | e <;> rw [e] at k1 ⊢ <;> simp (disch := omega) only [k1, fX7_pulled, fX9_pulled, Nat.reduceAdd, Nat.reduceEqDiff, gd_true, gd_pos, bd_some, lt_eq, on_some, on_none, if_pos, if_neg, ne_eq, n32_add, n32_mul, n32_in, n32_cl, n32_lt, n32_le, n32_inj, n32_m1_lt, n32_m1_le, n32_lt_m1, n32_le_m1, n32_eq_m1, n32_m1_eq, not_true_eq_false, not_false_eq_true, ite_true, ite_false, Nat.add_assoc, true_and, and_true, decide_true, decide_false, Bool.and_true, Bool.true_and, Bool.and_false, Bool.false_and, Bool.not_true, Bool.not_false, Bool.false_eq_true, Nat.lt_irrefl, Nat.not_lt_zero, l_0, l_1, l_2, l_3, l_4, l_5, l_6, l_7, l_8, l_9, l_10, l_11, l_12, l_13, l_14, l_15, l_16, l_17, l_18, l_19, l_20, l_21, l_22, l_23, l_24, l_25, l_26, l_27, l_28, l_29, l_30, l_31, l_32, l_38, l_40, l_41, l_42, l_43, l_45, l_48, l_54, l_56, l_57, l_59, l_60, l_61, l_63, l_68, l_76, l_96, l_97, l_99, l_100, l_101, l_102, l_103, l_104, l_105, l_106, l_108, l_122, l_124, l_126, l_132, l_255, l_1000, l_1100, l_1134, l_1135, l_1148, l_1154, l_1188, l_1202, l_9999] <;> simp [Nat.mul_comm]
