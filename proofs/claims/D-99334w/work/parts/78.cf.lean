/-! THE COMPONENT: what leaves its rope alone; its small methods. -/
set_option maxRecDepth 100000
/-- codes of fields and arrays that a rope reads -/
def qR (c : Nat) : Prop := c = 130 ∨ (384 ≤ c ∧ c < 395) ∨ c = 2689 ∨ c = 2690 ∨ c = 8196 ∨ (896 ≤ c ∧ c ≤ 899) ∨ (1408 ≤ c ∧ c < 1920)
def kq (N : Nat) (K K' : mm_K) : Prop := ∀ a, a < N → K'.1 a = K.1 a ∧ K'.2 a = K.2 a
theorem kq_refl (N : Nat) (K : mm_K) : kq N K K := fun _ _ => ⟨rfl, rfl⟩
theorem cX.fr {K K' : mm_K} {P P' : mm_P} {N N' : Nat} {W : Nat → Nat → Prop} (hf : fr W P P') (hk : kq N K K') (hW : ∀ c a, a < N → qR c → ¬ W c a) (hN : N ≤ N') : ∀ (d a : Nat) (l : List (Nat × Nat)), cX K P N d a l → cX K' P' N' d a l := by
  intro d
  induction d with
  | zero => intro a l h; exact h
  | succ d ih =>
    intro a l ⟨ha, h⟩
    have e := (hk a ha).1
    have q : ∀ c, 1408 ≤ c → c < 1920 → ¬ W c a := fun c h1 h2 => hW c a ha (by unfold qR; omega)
    refine ⟨by omega, ?_⟩
    rcases h with ⟨k, x, hx, rfl⟩ | ⟨k, x, hx3, hx, rfl⟩ | ⟨k, b, l1, hb, h1, rfl⟩ | ⟨k, b1, b2, l1, l2, k', w, e1, e2, h1, h2, hw, hm, rfl⟩
    · exact Or.inl ⟨e.trans k, x, (hf _ _ (q 1408 (by decide) (by decide))).1.trans hx, rfl⟩
    · exact Or.inr (Or.inl ⟨e.trans k, x, hx3, (hf _ _ (q 1536 (by decide) (by decide))).1.trans hx, rfl⟩)
    · exact Or.inr (Or.inr (Or.inl ⟨e.trans k, b, l1, (hf _ _ (q 1664 (by decide) (by decide))).2.1.trans hb, ih _ _ h1, rfl⟩))
    · exact Or.inr (Or.inr (Or.inr ⟨e.trans k, b1, b2, l1, l2, k', w, (hf _ _ (q 1793 (by decide) (by decide))).2.1.trans e1, (hf _ _ (q 1794 (by decide) (by decide))).2.1.trans e2, ih _ _ h1, ih _ _ h2, (hf _ _ (q 1792 (by decide) (by decide))).1.trans hw, hm, rfl⟩))
theorem cE.fr {K K' : mm_K} {P P' : mm_P} {N N' : Nat} {W : Nat → Nat → Prop} (hf : fr W P P') (hk : kq N K K') (hW : ∀ c a, a < N → qR c → ¬ W c a) (hN : N ≤ N') {o : Option Nat} {cp : Option (List (Nat × Nat))} (h : cE K P N o cp) : cE K' P' N' o cp := by
  cases o <;> cases cp
  · exact h
  · exact h
  · exact h
  · exact cX.fr hf hk hW hN _ _ _ h
theorem cR.fr {K K' : mm_K} {P P' : mm_P} {N N' : Nat} {W : Nat → Nat → Prop} (hf : fr W P P') (hk : kq N K K') (hW : ∀ c a, a < N → qR c → ¬ W c a) (hN : N ≤ N') {ro : Nat} {R : Nat → Nat} {cp cd : Option (List (Nat × Nat))} (h : cR K P N ro R cp cd) : cR K' P' N' ro R cp cd := by
  obtain ⟨h0, h1, h2, h3, h4, h5, h6, h7, h8, h9, h10, li, ar, g1, g2, g3, g4, g5, g6, g7, g8, g9⟩ := h
  have q : ∀ c, 384 ≤ c → c < 395 → ¬ W c ro := fun c h1 h2 => hW c ro h0 (by unfold qR; omega)
  have qi := fun c h1 h2 => (hf c ro (q c h1 h2)).1
  have qr := fun c h1 h2 => (hf c ro (q c h1 h2)).2.1
  have qa := fun c h1 h2 => (hf c ro (q c h1 h2)).2.2.2.1
  refine ⟨by omega, (hk ro h0).1.trans h1, (qi 388 (by decide) (by decide)).trans h2, fun p hp => (qa 385 (by decide) (by decide) p).trans (h3 p hp), ?_, ?_, ?_, (qi 390 (by decide) (by decide)).trans h7, fun c hc => (qa 387 (by decide) (by decide) c).trans (h8 c hc), ?_, ?_, li, ar, (qr 384 (by decide) (by decide)).trans g1, by omega, by omega, (hk li g2).1.trans g4, (hf 2690 li (hW _ _ g2 (by unfold qR; omega))).1.trans g5, (hf 2689 li (hW _ _ g2 (by unfold qR; omega))).2.1.trans g6, (hk ar g3).1.trans g7, by rw [(hk ar g3).2]; exact g8, fun c hc => ?_⟩
  · rw [qi 389 (by decide) (by decide)]
    rcases h4 with h4 | ⟨a, b, c⟩
    · exact Or.inl h4
    · exact Or.inr ⟨a, b, fun h hh => (qa 386 (by decide) (by decide) h).trans (c h hh)⟩
  · rw [qi 391 (by decide) (by decide)]; exact h5
  · rw [qi 392 (by decide) (by decide)]; exact h6
  · rw [qr 393 (by decide) (by decide)]; exact cE.fr hf hk hW hN h9
  · rw [qr 394 (by decide) (by decide)]; exact cE.fr hf hk hW hN h10
  · obtain ⟨o, o1, o2, k1, k2, k3, k4, k5⟩ := g9 c hc
    have q2 : ∀ c, 896 ≤ c → c ≤ 899 → ¬ W c o := fun c h1 h2 => hW c o o2 (by unfold qR; omega)
    exact ⟨o, ((hf 8196 ar (hW _ _ g3 (by unfold qR; omega))).2.2.2.2.1 c).trans o1, by omega, (hk o o2).1.trans k1, k2, (hf _ _ (q2 897 (by decide) (by decide))).1.trans k3, (hf _ _ (q2 898 (by decide) (by decide))).1.trans k4, (hf _ _ (q2 899 (by decide) (by decide))).1.trans k5⟩
theorem cP.fr {K K' : mm_K} {P P' : mm_P} {N N' : Nat} {W : Nat → Nat → Prop} {px : Nat} {R : Nat → Nat} {cp cd : Option (List (Nat × Nat))} (h : cP K P N px R cp cd) (hf : fr W P P') (hk : kq N K K') (hx : px < N) (hW : ∀ c a, a < N → qR c → ¬ W c a) (hN : N ≤ N') : cP K' P' N' px R cp cd := by
  obtain ⟨ro, h1, h2⟩ := h
  exact ⟨ro, (hf 130 px (hW _ _ hx (by unfold qR; omega))).2.1.trans h1, h2.fr hf hk hW hN⟩
/-- what the component's reckoning writes: its facts, the states' codes -/
def cz (c a : Nat) : Prop := c = 134 ∨ (512 ≤ c ∧ c < 518)
theorem cz_q {N : Nat} : ∀ c a, a < N → qR c → ¬ cz c a := fun c a _ h z => by unfold qR at h; unfold cz at z; omega
theorem cP_frz {K : mm_K} {P P' : mm_P} {N : Nat} {px : Nat} {R : Nat → Nat} {cp cd : Option (List (Nat × Nat))} (h : cP K P N px R cp cd) (hf : fr cz P P') (hx : px < N) : cP K P' N px R cp cd := h.fr hf (kq_refl _ _) hx cz_q (Nat.le_refl _)
theorem cw_cz {a : Nat} {P P' : mm_P} (h : fr (cw a) P P') : fr cz P P' := h.mono (fun c b z => Or.inr z.2)
section C
variable {K : mm_K} {P : mm_P} {N px : Nat} {R : Nat → Nat} {cp cd : Option (List (Nat × Nat))}
theorem c_wind (h : cP K P N px R cp cd) (okr : okR R) {k : Nat} (hk : k < 1048576) : ∃ ro, gR P 130 px = some ro ∧ K.1 ro = 3 ∧ fX3_wind ro P (n32 k) = some (n32 (p_wind R k)) := by
  obtain ⟨ro, h1, -, hk3, -, -, hw, -⟩ := h
  obtain ⟨-, -, r1, r2, -⟩ := okr
  refine ⟨ro, h1, hk3, ?_⟩
  unfold p_wind
  rcases hw with ⟨a, b, c⟩ | ⟨a, b, c⟩
  · rw [b, Nat.mod_one, Nat.add_zero, c]
    simp (disch := omega) only [fX3_wind, a, gd_true, gd_pos, bd_some, lt_eq, on_some, on_none, if_pos, if_neg, ne_eq, n32_add, n32_mul, n32_in, n32_cl, n32_lt, n32_le, n32_inj, n32_m1_lt, n32_m1_le, n32_lt_m1, n32_le_m1, n32_eq_m1, n32_m1_eq, not_true_eq_false, not_false_eq_true, ite_true, ite_false, Nat.add_assoc, true_and, and_true, decide_true, decide_false, Bool.and_true, Bool.true_and, Bool.and_false, Bool.false_and, Bool.not_true, Bool.not_false, Bool.false_eq_true, Nat.lt_irrefl, Nat.not_lt_zero, l_0, l_1, l_2, l_3, l_4, l_5, l_6, l_7, l_8, l_9, l_10, l_11, l_12, l_13, l_14, l_15, l_16, l_17, l_18, l_19, l_20, l_21, l_22, l_23, l_24, l_25, l_26, l_27, l_28, l_29, l_30, l_31, l_32, l_38, l_40, l_41, l_42, l_43, l_45, l_48, l_54, l_56, l_57, l_59, l_60, l_61, l_63, l_68, l_76, l_96, l_97, l_99, l_100, l_101, l_102, l_103, l_104, l_105, l_106, l_108, l_122, l_124, l_126, l_132, l_255, l_1000, l_1100, l_1134, l_1135, l_1148, l_1154, l_1188, l_1202, l_9999]
  · have hm : k % R 2 < R 2 := Nat.mod_lt _ r1
    simp (disch := omega) only [fX3_wind, a, n32_rem, c, gd_true, gd_pos, bd_some, lt_eq, on_some, on_none, if_pos, if_neg, ne_eq, n32_add, n32_mul, n32_in, n32_cl, n32_lt, n32_le, n32_inj, n32_m1_lt, n32_m1_le, n32_lt_m1, n32_le_m1, n32_eq_m1, n32_m1_eq, not_true_eq_false, not_false_eq_true, ite_true, ite_false, Nat.add_assoc, true_and, and_true, decide_true, decide_false, Bool.and_true, Bool.true_and, Bool.and_false, Bool.false_and, Bool.not_true, Bool.not_false, Bool.false_eq_true, Nat.lt_irrefl, Nat.not_lt_zero, l_0, l_1, l_2, l_3, l_4, l_5, l_6, l_7, l_8, l_9, l_10, l_11, l_12, l_13, l_14, l_15, l_16, l_17, l_18, l_19, l_20, l_21, l_22, l_23, l_24, l_25, l_26, l_27, l_28, l_29, l_30, l_31, l_32, l_38, l_40, l_41, l_42, l_43, l_45, l_48, l_54, l_56, l_57, l_59, l_60, l_61, l_63, l_68, l_76, l_96, l_97, l_99, l_100, l_101, l_102, l_103, l_104, l_105, l_106, l_108, l_122, l_124, l_126, l_132, l_255, l_1000, l_1100, l_1134, l_1135, l_1148, l_1154, l_1188, l_1202, l_9999]
theorem c_yards (h : cP K P N px R cp cd) (okr : okR R) : ∃ ro, gR P 130 px = some ro ∧ K.1 ro = 3 ∧ fX3_yards ro P = some (n32 (R 3)) := by
  obtain ⟨ro, h1, -, hk3, -, -, -, hy, -⟩ := h
  obtain ⟨-, -, -, -, r3, -⟩ := okr
  refine ⟨ro, h1, hk3, ?_⟩
  rcases hy with ⟨a, b⟩ | a
  · rw [b]
    simp (disch := omega) only [fX3_yards, a, gd_true, gd_pos, bd_some, lt_eq, on_some, on_none, if_pos, if_neg, ne_eq, n32_add, n32_mul, n32_in, n32_cl, n32_lt, n32_le, n32_inj, n32_m1_lt, n32_m1_le, n32_lt_m1, n32_le_m1, n32_eq_m1, n32_m1_eq, not_true_eq_false, not_false_eq_true, ite_true, ite_false, Nat.add_assoc, true_and, and_true, decide_true, decide_false, Bool.and_true, Bool.true_and, Bool.and_false, Bool.false_and, Bool.not_true, Bool.not_false, Bool.false_eq_true, Nat.lt_irrefl, Nat.not_lt_zero, l_0, l_1, l_2, l_3, l_4, l_5, l_6, l_7, l_8, l_9, l_10, l_11, l_12, l_13, l_14, l_15, l_16, l_17, l_18, l_19, l_20, l_21, l_22, l_23, l_24, l_25, l_26, l_27, l_28, l_29, l_30, l_31, l_32, l_38, l_40, l_41, l_42, l_43, l_45, l_48, l_54, l_56, l_57, l_59, l_60, l_61, l_63, l_68, l_76, l_96, l_97, l_99, l_100, l_101, l_102, l_103, l_104, l_105, l_106, l_108, l_122, l_124, l_126, l_132, l_255, l_1000, l_1100, l_1134, l_1135, l_1148, l_1154, l_1188, l_1202, l_9999]
  · simp (disch := omega) only [fX3_yards, a, gd_true, gd_pos, bd_some, lt_eq, on_some, on_none, if_pos, if_neg, ne_eq, n32_add, n32_mul, n32_in, n32_cl, n32_lt, n32_le, n32_inj, n32_m1_lt, n32_m1_le, n32_lt_m1, n32_le_m1, n32_eq_m1, n32_m1_eq, not_true_eq_false, not_false_eq_true, ite_true, ite_false, Nat.add_assoc, true_and, and_true, decide_true, decide_false, Bool.and_true, Bool.true_and, Bool.and_false, Bool.false_and, Bool.not_true, Bool.not_false, Bool.false_eq_true, Nat.lt_irrefl, Nat.not_lt_zero, l_0, l_1, l_2, l_3, l_4, l_5, l_6, l_7, l_8, l_9, l_10, l_11, l_12, l_13, l_14, l_15, l_16, l_17, l_18, l_19, l_20, l_21, l_22, l_23, l_24, l_25, l_26, l_27, l_28, l_29, l_30, l_31, l_32, l_38, l_40, l_41, l_42, l_43, l_45, l_48, l_54, l_56, l_57, l_59, l_60, l_61, l_63, l_68, l_76, l_96, l_97, l_99, l_100, l_101, l_102, l_103, l_104, l_105, l_106, l_108, l_122, l_124, l_126, l_132, l_255, l_1000, l_1100, l_1134, l_1135, l_1148, l_1154, l_1188, l_1202, l_9999]
theorem c_gusts (h : cP K P N px R cp cd) (okr : okR R) : ∃ ro, gR P 130 px = some ro ∧ K.1 ro = 3 ∧ fX3_gusts ro P = some (n32 (R 4)) := by
  obtain ⟨ro, h1, -, hk3, -, -, -, -, hy, -⟩ := h
  obtain ⟨-, -, -, -, -, r4, -⟩ := okr
  refine ⟨ro, h1, hk3, ?_⟩
  rcases hy with ⟨a, b⟩ | a
  · rw [b, fX3_gusts, a]
    rfl
  · rw [fX3_gusts, a, show (0 : Int32) = n32 0 from rfl, n32_max (by decide) (by omega), Nat.max_eq_right (Nat.zero_le _)]
theorem p_wd_le (okr : okR R) (c : Nat) : p_wd R c ≤ 1000 := okr.2.2.2.2.2.2 _
theorem p_room_le (okr : okR R) (c k : Nat) : p_room R c k ≤ 1001 := by
  have := p_wd_le okr c
  unfold p_room
  split <;> omega
theorem c_roomBy (h : cP K P N px R cp cd) (okr : okR R) {c k : Nat} (hc : c < R 0) (hk : k < 100) : fX1_roomBy K px P (n32 c) (n32 k) = some (n32 (if k = 0 then 0 else p_room R c k)) := by
  obtain ⟨o, h1, h2⟩ := c_cloth2 h okr.1 hc
  have hw := h2.2.2.1
  have hwd := p_wd_le okr c
  unfold p_room
  by_cases q : k = 1
  · simp (disch := omega) only [fX1_roomBy, q, h1, gd_pos h2.c, hw, n32_div, Nat.one_ne_zero, gd_true, gd_pos, bd_some, lt_eq, on_some, on_none, if_pos, if_neg, ne_eq, n32_add, n32_mul, n32_in, n32_cl, n32_lt, n32_le, n32_inj, n32_m1_lt, n32_m1_le, n32_lt_m1, n32_le_m1, n32_eq_m1, n32_m1_eq, not_true_eq_false, not_false_eq_true, ite_true, ite_false, Nat.add_assoc, true_and, and_true, decide_true, decide_false, Bool.and_true, Bool.true_and, Bool.and_false, Bool.false_and, Bool.not_true, Bool.not_false, Bool.false_eq_true, Nat.lt_irrefl, Nat.not_lt_zero, l_0, l_1, l_2, l_3, l_4, l_5, l_6, l_7, l_8, l_9, l_10, l_11, l_12, l_13, l_14, l_15, l_16, l_17, l_18, l_19, l_20, l_21, l_22, l_23, l_24, l_25, l_26, l_27, l_28, l_29, l_30, l_31, l_32, l_38, l_40, l_41, l_42, l_43, l_45, l_48, l_54, l_56, l_57, l_59, l_60, l_61, l_63, l_68, l_76, l_96, l_97, l_99, l_100, l_101, l_102, l_103, l_104, l_105, l_106, l_108, l_122, l_124, l_126, l_132, l_255, l_1000, l_1100, l_1134, l_1135, l_1148, l_1154, l_1188, l_1202, l_9999]
  · by_cases q2 : k = 0
    · simp (disch := omega) only [fX1_roomBy, q2, Nat.zero_ne_one, gd_true, gd_pos, bd_some, lt_eq, on_some, on_none, if_pos, if_neg, ne_eq, n32_add, n32_mul, n32_in, n32_cl, n32_lt, n32_le, n32_inj, n32_m1_lt, n32_m1_le, n32_lt_m1, n32_le_m1, n32_eq_m1, n32_m1_eq, not_true_eq_false, not_false_eq_true, ite_true, ite_false, Nat.add_assoc, true_and, and_true, decide_true, decide_false, Bool.and_true, Bool.true_and, Bool.and_false, Bool.false_and, Bool.not_true, Bool.not_false, Bool.false_eq_true, Nat.lt_irrefl, Nat.not_lt_zero, l_0, l_1, l_2, l_3, l_4, l_5, l_6, l_7, l_8, l_9, l_10, l_11, l_12, l_13, l_14, l_15, l_16, l_17, l_18, l_19, l_20, l_21, l_22, l_23, l_24, l_25, l_26, l_27, l_28, l_29, l_30, l_31, l_32, l_38, l_40, l_41, l_42, l_43, l_45, l_48, l_54, l_56, l_57, l_59, l_60, l_61, l_63, l_68, l_76, l_96, l_97, l_99, l_100, l_101, l_102, l_103, l_104, l_105, l_106, l_108, l_122, l_124, l_126, l_132, l_255, l_1000, l_1100, l_1134, l_1135, l_1148, l_1154, l_1188, l_1202, l_9999]
    · simp (disch := omega) only [fX1_roomBy, q, q2, h1, gd_pos h2.c, hw, gd_true, gd_pos, bd_some, lt_eq, on_some, on_none, if_pos, if_neg, ne_eq, n32_add, n32_mul, n32_in, n32_cl, n32_lt, n32_le, n32_inj, n32_m1_lt, n32_m1_le, n32_lt_m1, n32_le_m1, n32_eq_m1, n32_m1_eq, not_true_eq_false, not_false_eq_true, ite_true, ite_false, Nat.add_assoc, true_and, and_true, decide_true, decide_false, Bool.and_true, Bool.true_and, Bool.and_false, Bool.false_and, Bool.not_true, Bool.not_false, Bool.false_eq_true, Nat.lt_irrefl, Nat.not_lt_zero, l_0, l_1, l_2, l_3, l_4, l_5, l_6, l_7, l_8, l_9, l_10, l_11, l_12, l_13, l_14, l_15, l_16, l_17, l_18, l_19, l_20, l_21, l_22, l_23, l_24, l_25, l_26, l_27, l_28, l_29, l_30, l_31, l_32, l_38, l_40, l_41, l_42, l_43, l_45, l_48, l_54, l_56, l_57, l_59, l_60, l_61, l_63, l_68, l_76, l_96, l_97, l_99, l_100, l_101, l_102, l_103, l_104, l_105, l_106, l_108, l_122, l_124, l_126, l_132, l_255, l_1000, l_1100, l_1134, l_1135, l_1148, l_1154, l_1188, l_1202, l_9999]
theorem c_isLaw (h : cP K P N px R cp cd) (okr : okR R) {S : Nat → Nat} {a c hh : Nat} (hS : cS P a S) (ok : okS R hh S) (hk : K.1 a = 4) (hc : c < R 0) : fX1_isLaw K px P a (n32 c) = some (b2 (p_law R S c)) := by
  obtain ⟨o, h1, h2⟩ := c_cloth2 h okr.1 hc
  have h6 := okr.1
  obtain ⟨o1, o2, o3⟩ := ok.2.2.1 c (by omega)
  have hb := c_by hS (show c < 6 by omega) o3
  have hs := hS.2.2.2.1 c (by omega)
  have e1 := pc_8 o3
  have e2 := p_nd_le R c
  have e3 := h2.nd
  by_cases q2 : S (8 + c) < 3
  · by_cases q1 : pc (S (14 + c)) = p_nd R c
    · simp (disch := omega) only [fX1_isLaw, gd_pos hk, hs, hb, pc_count, h1, e3, q1, q2, p_law, b2, gd_true, gd_pos, bd_some, lt_eq, on_some, on_none, if_pos, if_neg, ne_eq, n32_add, n32_mul, n32_in, n32_cl, n32_lt, n32_le, n32_inj, n32_m1_lt, n32_m1_le, n32_lt_m1, n32_le_m1, n32_eq_m1, n32_m1_eq, not_true_eq_false, not_false_eq_true, ite_true, ite_false, Nat.add_assoc, true_and, and_true, decide_true, decide_false, Bool.and_true, Bool.true_and, Bool.and_false, Bool.false_and, Bool.not_true, Bool.not_false, Bool.false_eq_true, Nat.lt_irrefl, Nat.not_lt_zero, l_0, l_1, l_2, l_3, l_4, l_5, l_6, l_7, l_8, l_9, l_10, l_11, l_12, l_13, l_14, l_15, l_16, l_17, l_18, l_19, l_20, l_21, l_22, l_23, l_24, l_25, l_26, l_27, l_28, l_29, l_30, l_31, l_32, l_38, l_40, l_41, l_42, l_43, l_45, l_48, l_54, l_56, l_57, l_59, l_60, l_61, l_63, l_68, l_76, l_96, l_97, l_99, l_100, l_101, l_102, l_103, l_104, l_105, l_106, l_108, l_122, l_124, l_126, l_132, l_255, l_1000, l_1100, l_1134, l_1135, l_1148, l_1154, l_1188, l_1202, l_9999]
    · simp (disch := omega) only [fX1_isLaw, gd_pos hk, hs, hb, pc_count, h1, e3, q1, q2, p_law, b2, gd_true, gd_pos, bd_some, lt_eq, on_some, on_none, if_pos, if_neg, ne_eq, n32_add, n32_mul, n32_in, n32_cl, n32_lt, n32_le, n32_inj, n32_m1_lt, n32_m1_le, n32_lt_m1, n32_le_m1, n32_eq_m1, n32_m1_eq, not_true_eq_false, not_false_eq_true, ite_true, ite_false, Nat.add_assoc, true_and, and_true, decide_true, decide_false, Bool.and_true, Bool.true_and, Bool.and_false, Bool.false_and, Bool.not_true, Bool.not_false, Bool.false_eq_true, Nat.lt_irrefl, Nat.not_lt_zero, l_0, l_1, l_2, l_3, l_4, l_5, l_6, l_7, l_8, l_9, l_10, l_11, l_12, l_13, l_14, l_15, l_16, l_17, l_18, l_19, l_20, l_21, l_22, l_23, l_24, l_25, l_26, l_27, l_28, l_29, l_30, l_31, l_32, l_38, l_40, l_41, l_42, l_43, l_45, l_48, l_54, l_56, l_57, l_59, l_60, l_61, l_63, l_68, l_76, l_96, l_97, l_99, l_100, l_101, l_102, l_103, l_104, l_105, l_106, l_108, l_122, l_124, l_126, l_132, l_255, l_1000, l_1100, l_1134, l_1135, l_1148, l_1154, l_1188, l_1202, l_9999]
  · simp (disch := omega) only [fX1_isLaw, gd_pos hk, hs, q2, p_law, b2, gd_true, gd_pos, bd_some, lt_eq, on_some, on_none, if_pos, if_neg, ne_eq, n32_add, n32_mul, n32_in, n32_cl, n32_lt, n32_le, n32_inj, n32_m1_lt, n32_m1_le, n32_lt_m1, n32_le_m1, n32_eq_m1, n32_m1_eq, not_true_eq_false, not_false_eq_true, ite_true, ite_false, Nat.add_assoc, true_and, and_true, decide_true, decide_false, Bool.and_true, Bool.true_and, Bool.and_false, Bool.false_and, Bool.not_true, Bool.not_false, Bool.false_eq_true, Nat.lt_irrefl, Nat.not_lt_zero, l_0, l_1, l_2, l_3, l_4, l_5, l_6, l_7, l_8, l_9, l_10, l_11, l_12, l_13, l_14, l_15, l_16, l_17, l_18, l_19, l_20, l_21, l_22, l_23, l_24, l_25, l_26, l_27, l_28, l_29, l_30, l_31, l_32, l_38, l_40, l_41, l_42, l_43, l_45, l_48, l_54, l_56, l_57, l_59, l_60, l_61, l_63, l_68, l_76, l_96, l_97, l_99, l_100, l_101, l_102, l_103, l_104, l_105, l_106, l_108, l_122, l_124, l_126, l_132, l_255, l_1000, l_1100, l_1134, l_1135, l_1148, l_1154, l_1188, l_1202, l_9999]
theorem c_isTurned (h6 : R 0 ≤ 6) {S : Nat → Nat} {a c hh : Nat} (hS : cS P a S) (ok : okS R hh S) (hk : K.1 a = 4) (hc : c < R 0) : fX1_isTurned K px P a (n32 c) = some (b2 (decide (pc (S (14 + c)) = 1))) := by
  obtain ⟨o1, o2, o3⟩ := ok.2.2.1 c (by omega)
  have hb := c_by hS (show c < 6 by omega) o3
  have e1 := pc_8 o3
  by_cases q1 : pc (S (14 + c)) = 1
  · simp (disch := omega) only [fX1_isTurned, gd_pos hk, hb, pc_count, q1, b2, gd_true, gd_pos, bd_some, lt_eq, on_some, on_none, if_pos, if_neg, ne_eq, n32_add, n32_mul, n32_in, n32_cl, n32_lt, n32_le, n32_inj, n32_m1_lt, n32_m1_le, n32_lt_m1, n32_le_m1, n32_eq_m1, n32_m1_eq, not_true_eq_false, not_false_eq_true, ite_true, ite_false, Nat.add_assoc, true_and, and_true, decide_true, decide_false, Bool.and_true, Bool.true_and, Bool.and_false, Bool.false_and, Bool.not_true, Bool.not_false, Bool.false_eq_true, Nat.lt_irrefl, Nat.not_lt_zero, l_0, l_1, l_2, l_3, l_4, l_5, l_6, l_7, l_8, l_9, l_10, l_11, l_12, l_13, l_14, l_15, l_16, l_17, l_18, l_19, l_20, l_21, l_22, l_23, l_24, l_25, l_26, l_27, l_28, l_29, l_30, l_31, l_32, l_38, l_40, l_41, l_42, l_43, l_45, l_48, l_54, l_56, l_57, l_59, l_60, l_61, l_63, l_68, l_76, l_96, l_97, l_99, l_100, l_101, l_102, l_103, l_104, l_105, l_106, l_108, l_122, l_124, l_126, l_132, l_255, l_1000, l_1100, l_1134, l_1135, l_1148, l_1154, l_1188, l_1202, l_9999]
  · simp (disch := omega) only [fX1_isTurned, gd_pos hk, hb, pc_count, q1, b2, gd_true, gd_pos, bd_some, lt_eq, on_some, on_none, if_pos, if_neg, ne_eq, n32_add, n32_mul, n32_in, n32_cl, n32_lt, n32_le, n32_inj, n32_m1_lt, n32_m1_le, n32_lt_m1, n32_le_m1, n32_eq_m1, n32_m1_eq, not_true_eq_false, not_false_eq_true, ite_true, ite_false, Nat.add_assoc, true_and, and_true, decide_true, decide_false, Bool.and_true, Bool.true_and, Bool.and_false, Bool.false_and, Bool.not_true, Bool.not_false, Bool.false_eq_true, Nat.lt_irrefl, Nat.not_lt_zero, l_0, l_1, l_2, l_3, l_4, l_5, l_6, l_7, l_8, l_9, l_10, l_11, l_12, l_13, l_14, l_15, l_16, l_17, l_18, l_19, l_20, l_21, l_22, l_23, l_24, l_25, l_26, l_27, l_28, l_29, l_30, l_31, l_32, l_38, l_40, l_41, l_42, l_43, l_45, l_48, l_54, l_56, l_57, l_59, l_60, l_61, l_63, l_68, l_76, l_96, l_97, l_99, l_100, l_101, l_102, l_103, l_104, l_105, l_106, l_108, l_122, l_124, l_126, l_132, l_255, l_1000, l_1100, l_1134, l_1135, l_1148, l_1154, l_1188, l_1202, l_9999]
theorem c_lawsOf (h : cP K P N px R cp cd) (okr : okR R) {S : Nat → Nat} {a hh : Nat} (hS : cS P a S) (ok : okS R hh S) (hk : K.1 a = 4) : fX1_lawsOf K px P a = some (n32 (p_laws R S)) := by
  have h6 := okr.1
  refine eq_loop0 (L := fun n k s => fX1_lawsOf_b4 K px P n a s (n32 k)) (g := fun k => n32 (qk (p_law R S) k)) (R 0) (by omega) rfl ?_ ?_
  · intro n k hk'
    have h1 := qk_lt (p_law R S) k
    have h2 : 2 ^ k ≤ 2 ^ 6 := Nat.pow_le_pow_right (by decide) (by omega)
    have e := c_isLaw h okr hS ok hk hk'
    cases q : p_law R S k with
    | true => simp (disch := omega) only [fX1_lawsOf_b4, c_cloths h, e, n32_or, n32_shl, qk, qk_or, q, b2, gd_true, gd_pos, bd_some, lt_eq, on_some, on_none, if_pos, if_neg, ne_eq, n32_add, n32_mul, n32_in, n32_cl, n32_lt, n32_le, n32_inj, n32_m1_lt, n32_m1_le, n32_lt_m1, n32_le_m1, n32_eq_m1, n32_m1_eq, not_true_eq_false, not_false_eq_true, ite_true, ite_false, Nat.add_assoc, true_and, and_true, decide_true, decide_false, Bool.and_true, Bool.true_and, Bool.and_false, Bool.false_and, Bool.not_true, Bool.not_false, Bool.false_eq_true, Nat.lt_irrefl, Nat.not_lt_zero, l_0, l_1, l_2, l_3, l_4, l_5, l_6, l_7, l_8, l_9, l_10, l_11, l_12, l_13, l_14, l_15, l_16, l_17, l_18, l_19, l_20, l_21, l_22, l_23, l_24, l_25, l_26, l_27, l_28, l_29, l_30, l_31, l_32, l_38, l_40, l_41, l_42, l_43, l_45, l_48, l_54, l_56, l_57, l_59, l_60, l_61, l_63, l_68, l_76, l_96, l_97, l_99, l_100, l_101, l_102, l_103, l_104, l_105, l_106, l_108, l_122, l_124, l_126, l_132, l_255, l_1000, l_1100, l_1134, l_1135, l_1148, l_1154, l_1188, l_1202, l_9999]
    | false => simp (disch := omega) only [fX1_lawsOf_b4, c_cloths h, e, qk, q, b2, Nat.add_zero, gd_true, gd_pos, bd_some, lt_eq, on_some, on_none, if_pos, if_neg, ne_eq, n32_add, n32_mul, n32_in, n32_cl, n32_lt, n32_le, n32_inj, n32_m1_lt, n32_m1_le, n32_lt_m1, n32_le_m1, n32_eq_m1, n32_m1_eq, not_true_eq_false, not_false_eq_true, ite_true, ite_false, Nat.add_assoc, true_and, and_true, decide_true, decide_false, Bool.and_true, Bool.true_and, Bool.and_false, Bool.false_and, Bool.not_true, Bool.not_false, Bool.false_eq_true, Nat.lt_irrefl, Nat.not_lt_zero, l_0, l_1, l_2, l_3, l_4, l_5, l_6, l_7, l_8, l_9, l_10, l_11, l_12, l_13, l_14, l_15, l_16, l_17, l_18, l_19, l_20, l_21, l_22, l_23, l_24, l_25, l_26, l_27, l_28, l_29, l_30, l_31, l_32, l_38, l_40, l_41, l_42, l_43, l_45, l_48, l_54, l_56, l_57, l_59, l_60, l_61, l_63, l_68, l_76, l_96, l_97, l_99, l_100, l_101, l_102, l_103, l_104, l_105, l_106, l_108, l_122, l_124, l_126, l_132, l_255, l_1000, l_1100, l_1134, l_1135, l_1148, l_1154, l_1188, l_1202, l_9999]
  · intro n
    simp (disch := omega) only [fX1_lawsOf_b4, c_cloths h, p_laws, gd_true, gd_pos, bd_some, lt_eq, on_some, on_none, if_pos, if_neg, ne_eq, n32_add, n32_mul, n32_in, n32_cl, n32_lt, n32_le, n32_inj, n32_m1_lt, n32_m1_le, n32_lt_m1, n32_le_m1, n32_eq_m1, n32_m1_eq, not_true_eq_false, not_false_eq_true, ite_true, ite_false, Nat.add_assoc, true_and, and_true, decide_true, decide_false, Bool.and_true, Bool.true_and, Bool.and_false, Bool.false_and, Bool.not_true, Bool.not_false, Bool.false_eq_true, Nat.lt_irrefl, Nat.not_lt_zero, l_0, l_1, l_2, l_3, l_4, l_5, l_6, l_7, l_8, l_9, l_10, l_11, l_12, l_13, l_14, l_15, l_16, l_17, l_18, l_19, l_20, l_21, l_22, l_23, l_24, l_25, l_26, l_27, l_28, l_29, l_30, l_31, l_32, l_38, l_40, l_41, l_42, l_43, l_45, l_48, l_54, l_56, l_57, l_59, l_60, l_61, l_63, l_68, l_76, l_96, l_97, l_99, l_100, l_101, l_102, l_103, l_104, l_105, l_106, l_108, l_122, l_124, l_126, l_132, l_255, l_1000, l_1100, l_1134, l_1135, l_1148, l_1154, l_1188, l_1202, l_9999]
theorem c_worthOf (h : cP K P N px R cp cd) (okr : okR R) {x : Nat} (hx : x < 2147483648) : fX1_worthOf K px P (n32 x) = some (n32 (p_worth R x)) := by
  have h6 := okr.1
  have hRb := okr.2.2.2.2.2.2
  refine eq_loop0 (L := fun n k s => fX1_worthOf_b4 K px P n (n32 x) s (n32 k)) (g := fun k => n32 (sm (fun c => if x.testBit c then p_wo R c else 0) k)) (R 0) (by omega) rfl ?_ ?_
  · intro n k hk
    obtain ⟨o, h1, h2⟩ := c_cloth2 h okr.1 hk
    have hw := h2.2.2.2.2
    cases q : x.testBit k with
    | true => simp (disch := omega) only [fX1_worthOf_b4, c_cloths h, c_isIn, q, sm, h1, gd_pos h2.c, hw, b2, gd_true, gd_pos, bd_some, lt_eq, on_some, on_none, if_pos, if_neg, ne_eq, n32_add, n32_mul, n32_in, n32_cl, n32_lt, n32_le, n32_inj, n32_m1_lt, n32_m1_le, n32_lt_m1, n32_le_m1, n32_eq_m1, n32_m1_eq, not_true_eq_false, not_false_eq_true, ite_true, ite_false, Nat.add_assoc, true_and, and_true, decide_true, decide_false, Bool.and_true, Bool.true_and, Bool.and_false, Bool.false_and, Bool.not_true, Bool.not_false, Bool.false_eq_true, Nat.lt_irrefl, Nat.not_lt_zero, l_0, l_1, l_2, l_3, l_4, l_5, l_6, l_7, l_8, l_9, l_10, l_11, l_12, l_13, l_14, l_15, l_16, l_17, l_18, l_19, l_20, l_21, l_22, l_23, l_24, l_25, l_26, l_27, l_28, l_29, l_30, l_31, l_32, l_38, l_40, l_41, l_42, l_43, l_45, l_48, l_54, l_56, l_57, l_59, l_60, l_61, l_63, l_68, l_76, l_96, l_97, l_99, l_100, l_101, l_102, l_103, l_104, l_105, l_106, l_108, l_122, l_124, l_126, l_132, l_255, l_1000, l_1100, l_1134, l_1135, l_1148, l_1154, l_1188, l_1202, l_9999]
    | false => simp (disch := omega) only [fX1_worthOf_b4, c_cloths h, c_isIn, q, sm, b2, Nat.add_zero, gd_true, gd_pos, bd_some, lt_eq, on_some, on_none, if_pos, if_neg, ne_eq, n32_add, n32_mul, n32_in, n32_cl, n32_lt, n32_le, n32_inj, n32_m1_lt, n32_m1_le, n32_lt_m1, n32_le_m1, n32_eq_m1, n32_m1_eq, not_true_eq_false, not_false_eq_true, ite_true, ite_false, Nat.add_assoc, true_and, and_true, decide_true, decide_false, Bool.and_true, Bool.true_and, Bool.and_false, Bool.false_and, Bool.not_true, Bool.not_false, Bool.false_eq_true, Nat.lt_irrefl, Nat.not_lt_zero, l_0, l_1, l_2, l_3, l_4, l_5, l_6, l_7, l_8, l_9, l_10, l_11, l_12, l_13, l_14, l_15, l_16, l_17, l_18, l_19, l_20, l_21, l_22, l_23, l_24, l_25, l_26, l_27, l_28, l_29, l_30, l_31, l_32, l_38, l_40, l_41, l_42, l_43, l_45, l_48, l_54, l_56, l_57, l_59, l_60, l_61, l_63, l_68, l_76, l_96, l_97, l_99, l_100, l_101, l_102, l_103, l_104, l_105, l_106, l_108, l_122, l_124, l_126, l_132, l_255, l_1000, l_1100, l_1134, l_1135, l_1148, l_1154, l_1188, l_1202, l_9999]
  · intro n
    simp (disch := omega) only [fX1_worthOf_b4, c_cloths h, p_worth, gd_true, gd_pos, bd_some, lt_eq, on_some, on_none, if_pos, if_neg, ne_eq, n32_add, n32_mul, n32_in, n32_cl, n32_lt, n32_le, n32_inj, n32_m1_lt, n32_m1_le, n32_lt_m1, n32_le_m1, n32_eq_m1, n32_m1_eq, not_true_eq_false, not_false_eq_true, ite_true, ite_false, Nat.add_assoc, true_and, and_true, decide_true, decide_false, Bool.and_true, Bool.true_and, Bool.and_false, Bool.false_and, Bool.not_true, Bool.not_false, Bool.false_eq_true, Nat.lt_irrefl, Nat.not_lt_zero, l_0, l_1, l_2, l_3, l_4, l_5, l_6, l_7, l_8, l_9, l_10, l_11, l_12, l_13, l_14, l_15, l_16, l_17, l_18, l_19, l_20, l_21, l_22, l_23, l_24, l_25, l_26, l_27, l_28, l_29, l_30, l_31, l_32, l_38, l_40, l_41, l_42, l_43, l_45, l_48, l_54, l_56, l_57, l_59, l_60, l_61, l_63, l_68, l_76, l_96, l_97, l_99, l_100, l_101, l_102, l_103, l_104, l_105, l_106, l_108, l_122, l_124, l_126, l_132, l_255, l_1000, l_1100, l_1134, l_1135, l_1148, l_1154, l_1188, l_1202, l_9999]
theorem c_left (h : cP K P N px R cp cd) (okr : okR R) {S : Nat → Nat} {a hh : Nat} (hS : cS P a S) (ok : okS R hh S) (hk : K.1 a = 4) : fX1_left K px P a = some (p_left R S) := by
  have h6 := okr.1
  obtain ⟨ro, r1, r2, r3⟩ := c_yards h okr
  unfold fX1_left
  rw [r1, bd_some, gd_pos r2, r3, bd_some]
  refine eq_loop0 (L := fun n k s => fX1_left_b10 K px P n a s (n32 k)) (g := fun k => p_leftN R S k) (R 0) (by omega) rfl ?_ ?_
  · intro n k hk'
    obtain ⟨o1, o2, o3⟩ := ok.2.2.1 k (by omega)
    have hb := c_by hS (show k < 6 by omega) o3
    have e1 := pc_8 o3
    have e0 := pc_0 (x := S (14 + k)) (by omega)
    have e2 : (if pc (S (14 + k)) = 0 then 0 else p_room R k (pc (S (14 + k)))) = p_roomOf R S k := by
      unfold p_roomOf
      by_cases q : S (14 + k) = 0
      · rw [if_pos q, if_pos (e0.mpr q)]
      · rw [if_neg q, if_neg (fun z => q (e0.mp z))]
    simp (disch := omega) only [fX1_left_b10, c_cloths h, gd_pos hk, hb, pc_count, c_roomBy h okr, e2, p_leftN, gd_true, gd_pos, bd_some, lt_eq, on_some, on_none, if_pos, if_neg, ne_eq, n32_add, n32_mul, n32_in, n32_cl, n32_lt, n32_le, n32_inj, n32_m1_lt, n32_m1_le, n32_lt_m1, n32_le_m1, n32_eq_m1, n32_m1_eq, not_true_eq_false, not_false_eq_true, ite_true, ite_false, Nat.add_assoc, true_and, and_true, decide_true, decide_false, Bool.and_true, Bool.true_and, Bool.and_false, Bool.false_and, Bool.not_true, Bool.not_false, Bool.false_eq_true, Nat.lt_irrefl, Nat.not_lt_zero, l_0, l_1, l_2, l_3, l_4, l_5, l_6, l_7, l_8, l_9, l_10, l_11, l_12, l_13, l_14, l_15, l_16, l_17, l_18, l_19, l_20, l_21, l_22, l_23, l_24, l_25, l_26, l_27, l_28, l_29, l_30, l_31, l_32, l_38, l_40, l_41, l_42, l_43, l_45, l_48, l_54, l_56, l_57, l_59, l_60, l_61, l_63, l_68, l_76, l_96, l_97, l_99, l_100, l_101, l_102, l_103, l_104, l_105, l_106, l_108, l_122, l_124, l_126, l_132, l_255, l_1000, l_1100, l_1134, l_1135, l_1148, l_1154, l_1188, l_1202, l_9999]
  · intro n
    simp (disch := omega) only [fX1_left_b10, c_cloths h, p_left, gd_true, gd_pos, bd_some, lt_eq, on_some, on_none, if_pos, if_neg, ne_eq, n32_add, n32_mul, n32_in, n32_cl, n32_lt, n32_le, n32_inj, n32_m1_lt, n32_m1_le, n32_lt_m1, n32_le_m1, n32_eq_m1, n32_m1_eq, not_true_eq_false, not_false_eq_true, ite_true, ite_false, Nat.add_assoc, true_and, and_true, decide_true, decide_false, Bool.and_true, Bool.true_and, Bool.and_false, Bool.false_and, Bool.not_true, Bool.not_false, Bool.false_eq_true, Nat.lt_irrefl, Nat.not_lt_zero, l_0, l_1, l_2, l_3, l_4, l_5, l_6, l_7, l_8, l_9, l_10, l_11, l_12, l_13, l_14, l_15, l_16, l_17, l_18, l_19, l_20, l_21, l_22, l_23, l_24, l_25, l_26, l_27, l_28, l_29, l_30, l_31, l_32, l_38, l_40, l_41, l_42, l_43, l_45, l_48, l_54, l_56, l_57, l_59, l_60, l_61, l_63, l_68, l_76, l_96, l_97, l_99, l_100, l_101, l_102, l_103, l_104, l_105, l_106, l_108, l_122, l_124, l_126, l_132, l_255, l_1000, l_1100, l_1134, l_1135, l_1148, l_1154, l_1188, l_1202, l_9999]
theorem c_canHang (h : cP K P N px R cp cd) (okr : okR R) {S : Nat → Nat} {a c x hh : Nat} (hS : cS P a S) (ok : okS R hh S) (hk : K.1 a = 4) (hc : c < R 0) (hx : x < 256) (hx0 : x ≠ 0) : fX1_canHang K px P a (n32 c) (n32 x) = some (b2 (p_may R S c x)) := by
  have h6 := okr.1
  obtain ⟨o, g1, g2⟩ := c_cloth2 h okr.1 hc
  obtain ⟨o1, o2, o3⟩ := ok.2.2.1 c (by omega)
  have hb := c_by hS (show c < 6 by omega) o3
  have e1 := pc_8 hx
  have e0 := pc_0 (x := x) (by omega)
  have h2 := p_nd_le R c
  have h3 : p_free R S < 256 := Nat.lt_of_lt_of_le (qk_lt _ _) (Nat.pow_le_pow_right (n := 2) (by decide) ok.2.1)
  have h4 : nd x (p_free R S) < 256 := nd_lt (n := 8) hx
  have hf := c_free hS ok h6
  have hn := g2.nd
  have fin : fX1_canHang_b44 K px P a (n32 c) (n32 (pc x)) = some (b2 (decide (n32 (p_room R c (pc x)) ≤ p_left R S))) := by
    have e5 : (if pc x = 0 then 0 else p_room R c (pc x)) = p_room R c (pc x) := if_neg (fun z => hx0 (e0.mp z))
    unfold fX1_canHang_b44
    rw [c_roomBy h okr hc (by omega), bd_some, c_left h okr hS ok hk, bd_some, e5]
    by_cases q : n32 (p_room R c (pc x)) ≤ p_left R S
    · rw [if_neg (Int32.not_lt.mpr q), decide_eq_true q]
      rfl
    · rw [if_pos (Int32.not_le.mp q), decide_eq_false q]
      rfl
  by_cases q1 : S (14 + c) = 0
  · by_cases q2 : nd x (p_free R S) = 0
    · by_cases q5 : pc x = 1
      · rw [q5] at fin
        simp (disch := omega) only [fX1_canHang, gd_pos hk, pc_count, hb, hf, n32_nd, q1, q2, q5, fin, p_may, or_true, gd_true, gd_pos, bd_some, lt_eq, on_some, on_none, if_pos, if_neg, ne_eq, n32_add, n32_mul, n32_in, n32_cl, n32_lt, n32_le, n32_inj, n32_m1_lt, n32_m1_le, n32_lt_m1, n32_le_m1, n32_eq_m1, n32_m1_eq, not_true_eq_false, not_false_eq_true, ite_true, ite_false, Nat.add_assoc, true_and, and_true, decide_true, decide_false, Bool.and_true, Bool.true_and, Bool.and_false, Bool.false_and, Bool.not_true, Bool.not_false, Bool.false_eq_true, Nat.lt_irrefl, Nat.not_lt_zero, l_0, l_1, l_2, l_3, l_4, l_5, l_6, l_7, l_8, l_9, l_10, l_11, l_12, l_13, l_14, l_15, l_16, l_17, l_18, l_19, l_20, l_21, l_22, l_23, l_24, l_25, l_26, l_27, l_28, l_29, l_30, l_31, l_32, l_38, l_40, l_41, l_42, l_43, l_45, l_48, l_54, l_56, l_57, l_59, l_60, l_61, l_63, l_68, l_76, l_96, l_97, l_99, l_100, l_101, l_102, l_103, l_104, l_105, l_106, l_108, l_122, l_124, l_126, l_132, l_255, l_1000, l_1100, l_1134, l_1135, l_1148, l_1154, l_1188, l_1202, l_9999]
      · by_cases q3 : pc x = p_nd R c
        · rw [q3] at fin
          have q6 : ¬ p_nd R c = 1 := by rw [← q3]; exact q5
          simp (disch := omega) only [fX1_canHang, gd_pos hk, pc_count, hb, hf, n32_nd, q1, q2, q3, q6, g1, hn, fin, p_may, true_or, gd_true, gd_pos, bd_some, lt_eq, on_some, on_none, if_pos, if_neg, ne_eq, n32_add, n32_mul, n32_in, n32_cl, n32_lt, n32_le, n32_inj, n32_m1_lt, n32_m1_le, n32_lt_m1, n32_le_m1, n32_eq_m1, n32_m1_eq, not_true_eq_false, not_false_eq_true, ite_true, ite_false, Nat.add_assoc, true_and, and_true, decide_true, decide_false, Bool.and_true, Bool.true_and, Bool.and_false, Bool.false_and, Bool.not_true, Bool.not_false, Bool.false_eq_true, Nat.lt_irrefl, Nat.not_lt_zero, l_0, l_1, l_2, l_3, l_4, l_5, l_6, l_7, l_8, l_9, l_10, l_11, l_12, l_13, l_14, l_15, l_16, l_17, l_18, l_19, l_20, l_21, l_22, l_23, l_24, l_25, l_26, l_27, l_28, l_29, l_30, l_31, l_32, l_38, l_40, l_41, l_42, l_43, l_45, l_48, l_54, l_56, l_57, l_59, l_60, l_61, l_63, l_68, l_76, l_96, l_97, l_99, l_100, l_101, l_102, l_103, l_104, l_105, l_106, l_108, l_122, l_124, l_126, l_132, l_255, l_1000, l_1100, l_1134, l_1135, l_1148, l_1154, l_1188, l_1202, l_9999]
        · simp (disch := omega) only [fX1_canHang, gd_pos hk, pc_count, hb, hf, n32_nd, q1, q2, q3, q5, g1, hn, p_may, or_self, b2, gd_true, gd_pos, bd_some, lt_eq, on_some, on_none, if_pos, if_neg, ne_eq, n32_add, n32_mul, n32_in, n32_cl, n32_lt, n32_le, n32_inj, n32_m1_lt, n32_m1_le, n32_lt_m1, n32_le_m1, n32_eq_m1, n32_m1_eq, not_true_eq_false, not_false_eq_true, ite_true, ite_false, Nat.add_assoc, true_and, and_true, decide_true, decide_false, Bool.and_true, Bool.true_and, Bool.and_false, Bool.false_and, Bool.not_true, Bool.not_false, Bool.false_eq_true, Nat.lt_irrefl, Nat.not_lt_zero, l_0, l_1, l_2, l_3, l_4, l_5, l_6, l_7, l_8, l_9, l_10, l_11, l_12, l_13, l_14, l_15, l_16, l_17, l_18, l_19, l_20, l_21, l_22, l_23, l_24, l_25, l_26, l_27, l_28, l_29, l_30, l_31, l_32, l_38, l_40, l_41, l_42, l_43, l_45, l_48, l_54, l_56, l_57, l_59, l_60, l_61, l_63, l_68, l_76, l_96, l_97, l_99, l_100, l_101, l_102, l_103, l_104, l_105, l_106, l_108, l_122, l_124, l_126, l_132, l_255, l_1000, l_1100, l_1134, l_1135, l_1148, l_1154, l_1188, l_1202, l_9999]
    · simp (disch := omega) only [fX1_canHang, gd_pos hk, pc_count, hb, hf, n32_nd, q1, q2, p_may, b2, gd_true, gd_pos, bd_some, lt_eq, on_some, on_none, if_pos, if_neg, ne_eq, n32_add, n32_mul, n32_in, n32_cl, n32_lt, n32_le, n32_inj, n32_m1_lt, n32_m1_le, n32_lt_m1, n32_le_m1, n32_eq_m1, n32_m1_eq, not_true_eq_false, not_false_eq_true, ite_true, ite_false, Nat.add_assoc, true_and, and_true, decide_true, decide_false, Bool.and_true, Bool.true_and, Bool.and_false, Bool.false_and, Bool.not_true, Bool.not_false, Bool.false_eq_true, Nat.lt_irrefl, Nat.not_lt_zero, l_0, l_1, l_2, l_3, l_4, l_5, l_6, l_7, l_8, l_9, l_10, l_11, l_12, l_13, l_14, l_15, l_16, l_17, l_18, l_19, l_20, l_21, l_22, l_23, l_24, l_25, l_26, l_27, l_28, l_29, l_30, l_31, l_32, l_38, l_40, l_41, l_42, l_43, l_45, l_48, l_54, l_56, l_57, l_59, l_60, l_61, l_63, l_68, l_76, l_96, l_97, l_99, l_100, l_101, l_102, l_103, l_104, l_105, l_106, l_108, l_122, l_124, l_126, l_132, l_255, l_1000, l_1100, l_1134, l_1135, l_1148, l_1154, l_1188, l_1202, l_9999]
  · simp (disch := omega) only [fX1_canHang, gd_pos hk, pc_count, hb, q1, p_may, b2, gd_true, gd_pos, bd_some, lt_eq, on_some, on_none, if_pos, if_neg, ne_eq, n32_add, n32_mul, n32_in, n32_cl, n32_lt, n32_le, n32_inj, n32_m1_lt, n32_m1_le, n32_lt_m1, n32_le_m1, n32_eq_m1, n32_m1_eq, not_true_eq_false, not_false_eq_true, ite_true, ite_false, Nat.add_assoc, true_and, and_true, decide_true, decide_false, Bool.and_true, Bool.true_and, Bool.and_false, Bool.false_and, Bool.not_true, Bool.not_false, Bool.false_eq_true, Nat.lt_irrefl, Nat.not_lt_zero, l_0, l_1, l_2, l_3, l_4, l_5, l_6, l_7, l_8, l_9, l_10, l_11, l_12, l_13, l_14, l_15, l_16, l_17, l_18, l_19, l_20, l_21, l_22, l_23, l_24, l_25, l_26, l_27, l_28, l_29, l_30, l_31, l_32, l_38, l_40, l_41, l_42, l_43, l_45, l_48, l_54, l_56, l_57, l_59, l_60, l_61, l_63, l_68, l_76, l_96, l_97, l_99, l_100, l_101, l_102, l_103, l_104, l_105, l_106, l_108, l_122, l_124, l_126, l_132, l_255, l_1000, l_1100, l_1134, l_1135, l_1148, l_1154, l_1188, l_1202, l_9999]
end C
