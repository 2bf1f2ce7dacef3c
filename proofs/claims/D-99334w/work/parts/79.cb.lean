/-! THE COMPONENT: what pulls, what dries; an hour. -/
set_option maxRecDepth 100000
section C
variable {K : mm_K} {P : mm_P} {N px : Nat} {R : Nat → Nat} {cp cd : Option (List (Nat × Nat))}
/-- a value brought between 0 and the most, as the component does it -/
theorem cl_mm {most : Nat} {v : Int32} (hm : most < 1000) : mm_max (n32 0) (mm_min (n32 most) v) = n32 (p_cl most v) := by
  unfold mm_max mm_min p_cl
  have z0 := n32_ti (a := 0) (by decide)
  have z1 := n32_ti (a := most) (by omega)
  by_cases h1 : v < n32 most
  · rw [if_pos h1]
    have h2 : ¬ n32 most < v := Int32.not_lt.mpr (Int32.le_of_lt h1)
    rw [if_neg h2]
    by_cases h3 : n32 0 < v
    · rw [if_pos h3, if_neg (Int32.not_lt.mpr (Int32.le_of_lt h3))]
      exact (Int32.ofNat_toNatClampNeg v (Int32.le_of_lt h3)).symm
    · rw [if_neg h3]
      by_cases h4 : v < n32 0
      · rw [if_pos h4]
      · rw [if_neg h4]
        have e : v = n32 0 := Int32.toInt.inj (by rw [Int32.lt_iff_toInt_lt] at h3 h4; omega)
        rw [e]
        rfl
  · rw [if_neg h1]
    have h5 : (if n32 0 < n32 most then n32 most else n32 0) = n32 most := by
      by_cases q : 0 < most
      · rw [if_pos ((n32_lt (by decide) (by omega)).mpr q)]
      · have : most = 0 := by omega
        subst this
        rfl
    rw [h5]
    have h6 : ¬ v < n32 0 := fun z => by
      rw [Int32.lt_iff_toInt_lt] at h1 z
      omega
    rw [if_neg h6]
    by_cases h2 : n32 most < v
    · rw [if_pos h2]
    · rw [if_neg h2]
      have e : v = n32 most := Int32.toInt.inj (by rw [Int32.lt_iff_toInt_lt] at h1 h2; omega)
      rw [e, n32_cl (by omega)]
theorem c_between {v : Int32} {most : Nat} (hm : most < 1000) : fX1_between v (0 : Int32) (n32 most) = some (n32 (p_cl most v)) := by
  unfold fX1_between
  rw [show (0 : Int32) = n32 0 from rfl, cl_mm hm]
def cf (px : Nat) (c a : Nat) : Prop := c = 134 ∧ a = px
theorem cf_q {N px : Nat} : ∀ c a, a < N → qR c → ¬ cf px c a := fun c a _ h z => by unfold qR at h; unfold cf at z; omega
theorem cf_cz {px : Nat} {P P' : mm_P} (h : fr (cf px) P P') : fr cz P P' := h.mono (fun c b z => Or.inl z.1)
theorem cP_cf (h : cP K P N px R cp cd) {P' : mm_P} (hf : fr (cf px) P P') (hx : px < N) : cP K P' N px R cp cd := h.fr hf (kq_refl _ _) hx cf_q (Nat.le_refl _)
/-- an expression of the rope, or what stands for it -/
theorem c_worked2 (h : cP K P N px R cp cd) (okr : okR R) (hx : px < N) {o : Option Nat} {cq : Option (List (Nat × Nat))} (hE : cE K P N o cq) {c wet wind most : Nat} {without : Int32} (hc : c < R 0) (hm : most < 1000) : wp (fX1_worked K px o (n32 c) (n32 wet) (n32 wind) without (n32 most) P) (fun r => r.1 = n32 (p_cl most (match cq with | none => without | some l => p_val (p_f R c wet wind) l)) ∧ fr (cf px) P r.2) := by
  cases o with
  | none =>
    cases cq with
    | some l => exact hE.elim
    | none =>
      unfold fX1_worked
      rw [on_none, c_between hm, bd_some]
      exact ⟨_, rfl, rfl, fr_refl _ _⟩
  | some e =>
    cases cq with
    | none => exact hE.elim
    | some l =>
      have f1 : fr (cf px) P (sA P 134 px 0 (n32 wind)) := fr_sA (fr_refl _ _) ⟨rfl, rfl⟩
      have k1 := cP_cf h f1 hx
      obtain ⟨o1, a1, b1⟩ := c_cloth2 k1 okr.1 hc
      have m1 := b1.ms (wet := wet)
      have f2 : fr (cf px) P (sA (sA P 134 px 0 (n32 wind)) 134 px 1 (n32 (p_mass R c wet))) := fr_sA f1 ⟨rfl, rfl⟩
      have k2 := cP_cf h f2 hx
      obtain ⟨o2, a2, b2⟩ := c_cloth2 k2 okr.1 hc
      have w2 := b2.2.2.1
      have f3 : fr (cf px) P (sA (sA (sA P 134 px 0 (n32 wind)) 134 px 1 (n32 (p_mass R c wet))) 134 px 2 (n32 (p_wd R c))) := fr_sA f2 ⟨rfl, rfl⟩
      have hE3 : cX K _ N 600 e l := cX.fr f3 (kq_refl _ _) cf_q (Nat.le_refl _) _ _ _ hE
      obtain ⟨v, g1, g2, g3⟩ := c_worked (px := px) (f := p_f R c wet wind) (fun i hi => by
        match i, hi with
        | 0, _ => simp (disch := omega) only [p_f, gA_sA_eq, gA_sA_ne, gI_sI_eq, gI_sI_ne, gA_sI, gI_sA, gR_sA, gR_sI, gL_sA, gL_sI, gB_sA, gB_sI, gJ_sA, gJ_sI, gd_true, gd_pos, bd_some, lt_eq, on_some, on_none, if_pos, if_neg, ne_eq, n32_add, n32_mul, n32_in, n32_cl, n32_lt, n32_le, n32_inj, n32_m1_lt, n32_m1_le, n32_lt_m1, n32_le_m1, n32_eq_m1, n32_m1_eq, not_true_eq_false, not_false_eq_true, ite_true, ite_false, Nat.add_assoc, true_and, and_true, decide_true, decide_false, Bool.and_true, Bool.true_and, Bool.and_false, Bool.false_and, Bool.not_true, Bool.not_false, Bool.false_eq_true, Nat.lt_irrefl, Nat.not_lt_zero, l_0, l_1, l_2, l_3, l_4, l_5, l_6, l_7, l_8, l_9, l_10, l_11, l_12, l_13, l_14, l_15, l_16, l_17, l_18, l_19, l_20, l_21, l_22, l_23, l_24, l_25, l_26, l_27, l_28, l_29, l_30, l_31, l_32, l_38, l_40, l_41, l_42, l_43, l_45, l_48, l_54, l_56, l_57, l_59, l_60, l_61, l_63, l_68, l_76, l_96, l_97, l_99, l_100, l_101, l_102, l_103, l_104, l_105, l_106, l_108, l_122, l_124, l_126, l_132, l_255, l_1000, l_1100, l_1134, l_1135, l_1148, l_1154, l_1188, l_1202, l_9999]
        | 1, _ => simp (disch := omega) only [p_f, gA_sA_eq, gA_sA_ne, gI_sI_eq, gI_sI_ne, gA_sI, gI_sA, gR_sA, gR_sI, gL_sA, gL_sI, gB_sA, gB_sI, gJ_sA, gJ_sI, gd_true, gd_pos, bd_some, lt_eq, on_some, on_none, if_pos, if_neg, ne_eq, n32_add, n32_mul, n32_in, n32_cl, n32_lt, n32_le, n32_inj, n32_m1_lt, n32_m1_le, n32_lt_m1, n32_le_m1, n32_eq_m1, n32_m1_eq, not_true_eq_false, not_false_eq_true, ite_true, ite_false, Nat.add_assoc, true_and, and_true, decide_true, decide_false, Bool.and_true, Bool.true_and, Bool.and_false, Bool.false_and, Bool.not_true, Bool.not_false, Bool.false_eq_true, Nat.lt_irrefl, Nat.not_lt_zero, l_0, l_1, l_2, l_3, l_4, l_5, l_6, l_7, l_8, l_9, l_10, l_11, l_12, l_13, l_14, l_15, l_16, l_17, l_18, l_19, l_20, l_21, l_22, l_23, l_24, l_25, l_26, l_27, l_28, l_29, l_30, l_31, l_32, l_38, l_40, l_41, l_42, l_43, l_45, l_48, l_54, l_56, l_57, l_59, l_60, l_61, l_63, l_68, l_76, l_96, l_97, l_99, l_100, l_101, l_102, l_103, l_104, l_105, l_106, l_108, l_122, l_124, l_126, l_132, l_255, l_1000, l_1100, l_1134, l_1135, l_1148, l_1154, l_1188, l_1202, l_9999]
        | 2, _ => simp (disch := omega) only [p_f, gA_sA_eq, gA_sA_ne, gI_sI_eq, gI_sI_ne, gA_sI, gI_sA, gR_sA, gR_sI, gL_sA, gL_sI, gB_sA, gB_sI, gJ_sA, gJ_sI, gd_true, gd_pos, bd_some, lt_eq, on_some, on_none, if_pos, if_neg, ne_eq, n32_add, n32_mul, n32_in, n32_cl, n32_lt, n32_le, n32_inj, n32_m1_lt, n32_m1_le, n32_lt_m1, n32_le_m1, n32_eq_m1, n32_m1_eq, not_true_eq_false, not_false_eq_true, ite_true, ite_false, Nat.add_assoc, true_and, and_true, decide_true, decide_false, Bool.and_true, Bool.true_and, Bool.and_false, Bool.false_and, Bool.not_true, Bool.not_false, Bool.false_eq_true, Nat.lt_irrefl, Nat.not_lt_zero, l_0, l_1, l_2, l_3, l_4, l_5, l_6, l_7, l_8, l_9, l_10, l_11, l_12, l_13, l_14, l_15, l_16, l_17, l_18, l_19, l_20, l_21, l_22, l_23, l_24, l_25, l_26, l_27, l_28, l_29, l_30, l_31, l_32, l_38, l_40, l_41, l_42, l_43, l_45, l_48, l_54, l_56, l_57, l_59, l_60, l_61, l_63, l_68, l_76, l_96, l_97, l_99, l_100, l_101, l_102, l_103, l_104, l_105, l_106, l_108, l_122, l_124, l_126, l_132, l_255, l_1000, l_1100, l_1134, l_1135, l_1148, l_1154, l_1188, l_1202, l_9999]) 600 e l 600 hE3 (Nat.le_refl _)
      have hv : p_val (p_f R c wet wind) l = v := by
        unfold p_val
        rw [g2]
        rfl
      have hb := c_between (v := v) hm
      rw [show (0 : Int32) = n32 0 from rfl] at hb
      simp (disch := omega) only [fX1_worked, a1, m1, a2, w2, gd_pos b2.c, g1, hb, gd_true, gd_pos, bd_some, lt_eq, on_some, on_none, if_pos, if_neg, ne_eq, n32_add, n32_mul, n32_in, n32_cl, n32_lt, n32_le, n32_inj, n32_m1_lt, n32_m1_le, n32_lt_m1, n32_le_m1, n32_eq_m1, n32_m1_eq, not_true_eq_false, not_false_eq_true, ite_true, ite_false, Nat.add_assoc, true_and, and_true, decide_true, decide_false, Bool.and_true, Bool.true_and, Bool.and_false, Bool.false_and, Bool.not_true, Bool.not_false, Bool.false_eq_true, Nat.lt_irrefl, Nat.not_lt_zero, l_0, l_1, l_2, l_3, l_4, l_5, l_6, l_7, l_8, l_9, l_10, l_11, l_12, l_13, l_14, l_15, l_16, l_17, l_18, l_19, l_20, l_21, l_22, l_23, l_24, l_25, l_26, l_27, l_28, l_29, l_30, l_31, l_32, l_38, l_40, l_41, l_42, l_43, l_45, l_48, l_54, l_56, l_57, l_59, l_60, l_61, l_63, l_68, l_76, l_96, l_97, l_99, l_100, l_101, l_102, l_103, l_104, l_105, l_106, l_108, l_122, l_124, l_126, l_132, l_255, l_1000, l_1100, l_1134, l_1135, l_1148, l_1154, l_1188, l_1202, l_9999]
      exact ⟨_, rfl, by rw [hv], f3⟩
theorem c_pullOf (h : cP K P N px R cp cd) (okr : okR R) (hx : px < N) {c wet wind : Nat} (hc : c < R 0) : wp (fX1_pullOf K px (n32 c) (n32 wet) (n32 wind) P) (fun r => r.1 = n32 (p_pull R cp c wet wind) ∧ fr (cf px) P r.2) := by
  obtain ⟨o1, a1, b1⟩ := c_cloth2 h okr.1 hc
  obtain ⟨ro, r1, r2⟩ := h
  have h : cP K P N px R cp cd := ⟨ro, r1, r2⟩
  have hE : cE K P N (gR P 393 ro) cp := r2.2.2.2.2.2.2.2.2.2.1
  have hk := r2.2.1
  have hw := b1.2.2.1
  have hm := b1.ms (wet := wet)
  simp (disch := omega) only [fX1_pullOf, a1, r1, gd_pos hk, gd_pos b1.c, hw, hm, wp_bd, gd_true, gd_pos, bd_some, lt_eq, on_some, on_none, if_pos, if_neg, ne_eq, n32_add, n32_mul, n32_in, n32_cl, n32_lt, n32_le, n32_inj, n32_m1_lt, n32_m1_le, n32_lt_m1, n32_le_m1, n32_eq_m1, n32_m1_eq, not_true_eq_false, not_false_eq_true, ite_true, ite_false, Nat.add_assoc, true_and, and_true, decide_true, decide_false, Bool.and_true, Bool.true_and, Bool.and_false, Bool.false_and, Bool.not_true, Bool.not_false, Bool.false_eq_true, Nat.lt_irrefl, Nat.not_lt_zero, l_0, l_1, l_2, l_3, l_4, l_5, l_6, l_7, l_8, l_9, l_10, l_11, l_12, l_13, l_14, l_15, l_16, l_17, l_18, l_19, l_20, l_21, l_22, l_23, l_24, l_25, l_26, l_27, l_28, l_29, l_30, l_31, l_32, l_38, l_40, l_41, l_42, l_43, l_45, l_48, l_54, l_56, l_57, l_59, l_60, l_61, l_63, l_68, l_76, l_96, l_97, l_99, l_100, l_101, l_102, l_103, l_104, l_105, l_106, l_108, l_122, l_124, l_126, l_132, l_255, l_1000, l_1100, l_1134, l_1135, l_1148, l_1154, l_1188, l_1202, l_9999]
  refine wp_mono (c_worked2 h okr hx hE hc (by decide)) fun r ⟨e, hf⟩ => ?_
  obtain ⟨u, P1⟩ := r
  dsimp only at e hf ⊢
  subst e
  rw [b1.pd, wp_some]
  refine ⟨_, rfl, ?_, hf⟩
  cases cp with
  | none =>
    unfold p_pull
    rw [n32_add]
  | some l => rfl
theorem c_driedOf (h : cP K P N px R cp cd) (okr : okR R) (hx : px < N) {c wet wind : Nat} (hc : c < R 0) (hw : wet ≤ 9) : wp (fX1_driedOf K px (n32 c) (n32 wet) (n32 wind) P) (fun r => r.1 = n32 (p_dried R cd c wet wind) ∧ fr (cf px) P r.2) := by
  obtain ⟨ro, r1, r2⟩ := h
  have h : cP K P N px R cp cd := ⟨ro, r1, r2⟩
  have hE : cE K P N (gR P 394 ro) cd := r2.2.2.2.2.2.2.2.2.2.2.1
  have hk := r2.2.1
  unfold fX1_driedOf
  rw [r1, bd_some, gd_pos hk, wp_bd]
  refine wp_mono (c_worked2 (most := 9) h okr hx hE hc (by decide)) fun r ⟨e, hf⟩ => ?_
  obtain ⟨u, P1⟩ := r
  dsimp only at e hf ⊢
  subst e
  refine ⟨_, rfl, ?_, hf⟩
  have fin : ∀ k, k ≤ 9 → mm_max (0 : Int32) (n32 wet - n32 k) = n32 (wet - k) := by
    have : ∀ w, w ≤ 9 → ∀ k, k ≤ 9 → mm_max (0 : Int32) (n32 w - n32 k) = n32 (w - k) := by decide +kernel
    exact this wet hw
  cases cd with
  | none =>
    rw [p_dried_n]
    exact fin _ (p_cl_le _ _)
  | some l =>
    rw [p_dried_s]
    exact fin _ (p_cl_le _ _)
/-- an hour of a cloth that hangs: as the reference pulls, then dries -/
theorem c_blows (h : cP K P N px R cp cd) (okr : okR R) (hx : px < N) {S : Nat → Nat} {a c w hh : Nat} (hS : cS P a S) (ok : okS R hh S) (hk : K.1 a = 4) (hc : c < R 0) (h0 : S (14 + c) ≠ 0) : wp (fX1_blows K px a (n32 c) (n32 w) P) (fun r => r.1 = b2 (p_pl R cp S c w).2 ∧ cS r.2 a (p_dr R cd (p_pl R cp S c w).1 c w) ∧ fr (fun r b => cf px r b ∨ cw a r b) P r.2) := by
  have h6 := okr.1
  have hc6 : c < 6 := by omega
  obtain ⟨o1, o2, o3⟩ := ok.2.2.1 c hc6
  have hb := c_by hS hc6 o3
  have hwet := hS.2.2.1 c hc6
  have i1 : ∀ {P P' : mm_P}, fr (cf px) P P' → fr (fun r b => cf px r b ∨ cw a r b) P P' := fun hf => hf.mono (fun _ _ z => Or.inl z)
  have i2 : ∀ {P P' : mm_P}, fr (cw a) P P' → fr (fun r b => cf px r b ∨ cw a r b) P P' := fun hf => hf.mono (fun _ _ z => Or.inr z)
  have i3 : ∀ {P P' : mm_P}, fr (fun r b => cf px r b ∨ cw a r b) P P' → fr cz P P' := fun hf => hf.mono (fun r b z => by
    rcases z with z | z
    · exact Or.inl z.1
    · exact Or.inr z.2)
  have g : ∀ p, p < 8 → S (20 + p) ≤ 1000 := fun p hp => Nat.le_trans (ok.2.2.2.1 p hp) (by decide)
  simp (disch := omega) only [fX1_blows, gd_pos hk, hb, hwet, wp_bd, gd_true, gd_pos, bd_some, lt_eq, on_some, on_none, if_pos, if_neg, ne_eq, n32_add, n32_mul, n32_in, n32_cl, n32_lt, n32_le, n32_inj, n32_m1_lt, n32_m1_le, n32_lt_m1, n32_le_m1, n32_eq_m1, n32_m1_eq, not_true_eq_false, not_false_eq_true, ite_true, ite_false, Nat.add_assoc, true_and, and_true, decide_true, decide_false, Bool.and_true, Bool.true_and, Bool.and_false, Bool.false_and, Bool.not_true, Bool.not_false, Bool.false_eq_true, Nat.lt_irrefl, Nat.not_lt_zero, l_0, l_1, l_2, l_3, l_4, l_5, l_6, l_7, l_8, l_9, l_10, l_11, l_12, l_13, l_14, l_15, l_16, l_17, l_18, l_19, l_20, l_21, l_22, l_23, l_24, l_25, l_26, l_27, l_28, l_29, l_30, l_31, l_32, l_38, l_40, l_41, l_42, l_43, l_45, l_48, l_54, l_56, l_57, l_59, l_60, l_61, l_63, l_68, l_76, l_96, l_97, l_99, l_100, l_101, l_102, l_103, l_104, l_105, l_106, l_108, l_122, l_124, l_126, l_132, l_255, l_1000, l_1100, l_1134, l_1135, l_1148, l_1154, l_1188, l_1202, l_9999]
  refine wp_mono (c_pullOf h okr hx hc) fun r ⟨e, hf⟩ => ?_
  obtain ⟨u, P1⟩ := r
  dsimp only at e hf ⊢
  subst e
  have hS1 : cS P1 a S := hS.fr hf (fun r r1 r2 z => by have := z.1; omega)
  have hf1 := i1 hf
  have hgr := c_grips hS1 g o3
  have hv := p_pull_le R cp c (S (2 + c)) w
  have hgl : p_grips S (S (14 + c)) ≤ 8 * 1000 := sm_le (fun p hp => by have := g p hp; split <;> omega)
  -- the fall
  have fall : ∀ (S2 : Nat → Nat) (P2 : mm_P), cS P2 a S2 → S2 (8 + c) ≤ 9 → fr (fun r b => cf px r b ∨ cw a r b) P P2 → wp (fX1_blows_b75 K px a (n32 c) P2) (fun r => r.1 = b2 true ∧ cS r.2 a (p_dr R cd (p_fall S2 c) c w) ∧ fr (fun r b => cf px r b ∨ cw a r b) P r.2) := by
    intro S2 P2 k1 k2 k3
    unfold fX1_blows_b75
    rw [gd_pos hk, wp_bd]
    refine wp_mono (c_falls k1 hc6 k2) fun P3 ⟨k4, k5⟩ => ?_
    refine ⟨_, rfl, rfl, ?_, k3.trans (i2 k5)⟩
    have e : p_dr R cd (p_fall S2 c) c w = p_fall S2 c := by
      unfold p_dr
      rw [if_pos (by unfold p_fall; rw [up_ne (by omega), up_ne (by omega), up_eq rfl])]
    rw [e]
    exact k4
  -- it goes on hanging
  have hang : ∀ (S2 : Nat → Nat) (P2 : mm_P), cS P2 a S2 → okS R hh S2 → S2 (14 + c) ≠ 0 → fr (fun r b => cf px r b ∨ cw a r b) P P2 → wp (fX1_blows_b62 K px a (n32 c) (n32 w) (n32 0) P2) (fun r => r.1 = b2 false ∧ cS r.2 a (p_dr R cd S2 c w) ∧ fr (fun r b => cf px r b ∨ cw a r b) P r.2) := by
    intro S2 P2 k1 k2 k0 k3
    obtain ⟨u1, u2, u3⟩ := k2.2.2.1 c hc6
    have hb2 := c_by k1 hc6 u3
    have hw2 := k1.2.2.1 c hc6
    have h2 := cP_frz h (i3 k3) hx
    simp (disch := omega) only [fX1_blows_b62, gd_pos hk, hb2, hw2, wp_bd, gd_true, gd_pos, bd_some, lt_eq, on_some, on_none, if_pos, if_neg, ne_eq, n32_add, n32_mul, n32_in, n32_cl, n32_lt, n32_le, n32_inj, n32_m1_lt, n32_m1_le, n32_lt_m1, n32_le_m1, n32_eq_m1, n32_m1_eq, not_true_eq_false, not_false_eq_true, ite_true, ite_false, Nat.add_assoc, true_and, and_true, decide_true, decide_false, Bool.and_true, Bool.true_and, Bool.and_false, Bool.false_and, Bool.not_true, Bool.not_false, Bool.false_eq_true, Nat.lt_irrefl, Nat.not_lt_zero, l_0, l_1, l_2, l_3, l_4, l_5, l_6, l_7, l_8, l_9, l_10, l_11, l_12, l_13, l_14, l_15, l_16, l_17, l_18, l_19, l_20, l_21, l_22, l_23, l_24, l_25, l_26, l_27, l_28, l_29, l_30, l_31, l_32, l_38, l_40, l_41, l_42, l_43, l_45, l_48, l_54, l_56, l_57, l_59, l_60, l_61, l_63, l_68, l_76, l_96, l_97, l_99, l_100, l_101, l_102, l_103, l_104, l_105, l_106, l_108, l_122, l_124, l_126, l_132, l_255, l_1000, l_1100, l_1134, l_1135, l_1148, l_1154, l_1188, l_1202, l_9999]
    refine wp_mono (c_driedOf h2 okr hx hc u1) fun r ⟨e, hf⟩ => ?_
    obtain ⟨u, P3⟩ := r
    dsimp only at e hf ⊢
    subst e
    have k4 : cS P3 a S2 := k1.fr hf (fun r r1 r2 z => by have := z.1; omega)
    have e : p_dr R cd S2 c w = up S2 (2 + c) (p_dried R cd c (S2 (2 + c)) w) := if_neg k0
    rw [e]
    exact ⟨_, rfl, rfl, k4.wet hc6, fr_sA (k3.trans (i1 hf)) (Or.inr ⟨rfl, by decide, by decide⟩)⟩
  have gone : ∀ (S2 : Nat → Nat) (P2 : mm_P), cS P2 a S2 → S2 (8 + c) ≤ 9 → S2 (14 + c) = 0 → fr (fun r b => cf px r b ∨ cw a r b) P P2 → wp (fX1_blows_b62 K px a (n32 c) (n32 w) (n32 0) P2) (fun r => r.1 = b2 true ∧ cS r.2 a (p_dr R cd (p_fall S2 c) c w) ∧ fr (fun r b => cf px r b ∨ cw a r b) P r.2) := by
    intro S2 P2 k1 k2 k0 k3
    have hb2 := c_by k1 hc6 (by rw [k0]; decide)
    rw [k0] at hb2
    simp (disch := omega) only [fX1_blows_b62, gd_pos hk, hb2, gd_true, gd_pos, bd_some, lt_eq, on_some, on_none, if_pos, if_neg, ne_eq, n32_add, n32_mul, n32_in, n32_cl, n32_lt, n32_le, n32_inj, n32_m1_lt, n32_m1_le, n32_lt_m1, n32_le_m1, n32_eq_m1, n32_m1_eq, not_true_eq_false, not_false_eq_true, ite_true, ite_false, Nat.add_assoc, true_and, and_true, decide_true, decide_false, Bool.and_true, Bool.true_and, Bool.and_false, Bool.false_and, Bool.not_true, Bool.not_false, Bool.false_eq_true, Nat.lt_irrefl, Nat.not_lt_zero, l_0, l_1, l_2, l_3, l_4, l_5, l_6, l_7, l_8, l_9, l_10, l_11, l_12, l_13, l_14, l_15, l_16, l_17, l_18, l_19, l_20, l_21, l_22, l_23, l_24, l_25, l_26, l_27, l_28, l_29, l_30, l_31, l_32, l_38, l_40, l_41, l_42, l_43, l_45, l_48, l_54, l_56, l_57, l_59, l_60, l_61, l_63, l_68, l_76, l_96, l_97, l_99, l_100, l_101, l_102, l_103, l_104, l_105, l_106, l_108, l_122, l_124, l_126, l_132, l_255, l_1000, l_1100, l_1134, l_1135, l_1148, l_1154, l_1188, l_1202, l_9999]
    exact fall S2 P2 k1 k2 k3
  unfold p_pl
  dsimp only
  generalize p_pull R cp c (S (2 + c)) w = v at hv ⊢
  by_cases q1 : v ≤ p_grips S (S (14 + c))
  · by_cases q2 : 2 * v ≤ p_grips S (S (14 + c))
    · have q3 : v * 2 ≤ p_grips S (S (14 + c)) := by omega
      simp (disch := omega) only [hgr, wp_some, q1, q2, q3, fX1_blows_b37, gd_pos hk, gd_true, gd_pos, bd_some, lt_eq, on_some, on_none, if_pos, if_neg, ne_eq, n32_add, n32_mul, n32_in, n32_cl, n32_lt, n32_le, n32_inj, n32_m1_lt, n32_m1_le, n32_lt_m1, n32_le_m1, n32_eq_m1, n32_m1_eq, not_true_eq_false, not_false_eq_true, ite_true, ite_false, Nat.add_assoc, true_and, and_true, decide_true, decide_false, Bool.and_true, Bool.true_and, Bool.and_false, Bool.false_and, Bool.not_true, Bool.not_false, Bool.false_eq_true, Nat.lt_irrefl, Nat.not_lt_zero, l_0, l_1, l_2, l_3, l_4, l_5, l_6, l_7, l_8, l_9, l_10, l_11, l_12, l_13, l_14, l_15, l_16, l_17, l_18, l_19, l_20, l_21, l_22, l_23, l_24, l_25, l_26, l_27, l_28, l_29, l_30, l_31, l_32, l_38, l_40, l_41, l_42, l_43, l_45, l_48, l_54, l_56, l_57, l_59, l_60, l_61, l_63, l_68, l_76, l_96, l_97, l_99, l_100, l_101, l_102, l_103, l_104, l_105, l_106, l_108, l_122, l_124, l_126, l_132, l_255, l_1000, l_1100, l_1134, l_1135, l_1148, l_1154, l_1188, l_1202, l_9999]
      exact hang S P1 hS1 ok h0 hf1
    · have q3 : ¬ v * 2 ≤ p_grips S (S (14 + c)) := by omega
      simp (disch := omega) only [hgr, wp_some, q1, q2, q3, fX1_blows_b37, fX1_blows_b57, gd_pos hk, wp_bd, gd_true, gd_pos, bd_some, lt_eq, on_some, on_none, if_pos, if_neg, ne_eq, n32_add, n32_mul, n32_in, n32_cl, n32_lt, n32_le, n32_inj, n32_m1_lt, n32_m1_le, n32_lt_m1, n32_le_m1, n32_eq_m1, n32_m1_eq, not_true_eq_false, not_false_eq_true, ite_true, ite_false, Nat.add_assoc, true_and, and_true, decide_true, decide_false, Bool.and_true, Bool.true_and, Bool.and_false, Bool.false_and, Bool.not_true, Bool.not_false, Bool.false_eq_true, Nat.lt_irrefl, Nat.not_lt_zero, l_0, l_1, l_2, l_3, l_4, l_5, l_6, l_7, l_8, l_9, l_10, l_11, l_12, l_13, l_14, l_15, l_16, l_17, l_18, l_19, l_20, l_21, l_22, l_23, l_24, l_25, l_26, l_27, l_28, l_29, l_30, l_31, l_32, l_38, l_40, l_41, l_42, l_43, l_45, l_48, l_54, l_56, l_57, l_59, l_60, l_61, l_63, l_68, l_76, l_96, l_97, l_99, l_100, l_101, l_102, l_103, l_104, l_105, l_106, l_108, l_122, l_124, l_126, l_132, l_255, l_1000, l_1100, l_1134, l_1135, l_1148, l_1154, l_1188, l_1202, l_9999]
      refine wp_mono (c_wears hS1 hc6 g o3) fun P2 ⟨k1, k2⟩ => ?_
      have hf2 := hf1.trans (i2 k2)
      by_cases q4 : p_kept (p_loose S (S (14 + c))) (S (14 + c)) = 0
      · rw [q4] at k1
        simp only [q4, not_true_eq_false, if_false]
        have := gone _ P2 k1 (by rw [up_ne (by omega), p_loose_lo (by omega)]; exact o2) (by rw [up_eq rfl]) hf2
        rw [p_fall_up] at this
        exact this
      · simp only [q4, not_false_eq_true, if_true]
        exact hang _ P2 k1 (ok.loose.up (by omega) (by omega) (by omega) (fun _ _ => ⟨qk_lt _ 8, by omega⟩) (by omega)) (by rw [up_eq rfl]; exact q4) hf2
  · have q2 : ¬ 2 * v ≤ p_grips S (S (14 + c)) := by omega
    simp (disch := omega) only [hgr, wp_some, q1, q2, fX1_blows_b37, fX1_blows_b57, fX1_blows_b62, gd_pos hk, wp_bd, gd_true, gd_pos, bd_some, lt_eq, on_some, on_none, if_pos, if_neg, ne_eq, n32_add, n32_mul, n32_in, n32_cl, n32_lt, n32_le, n32_inj, n32_m1_lt, n32_m1_le, n32_lt_m1, n32_le_m1, n32_eq_m1, n32_m1_eq, not_true_eq_false, not_false_eq_true, ite_true, ite_false, Nat.add_assoc, true_and, and_true, decide_true, decide_false, Bool.and_true, Bool.true_and, Bool.and_false, Bool.false_and, Bool.not_true, Bool.not_false, Bool.false_eq_true, Nat.lt_irrefl, Nat.not_lt_zero, l_0, l_1, l_2, l_3, l_4, l_5, l_6, l_7, l_8, l_9, l_10, l_11, l_12, l_13, l_14, l_15, l_16, l_17, l_18, l_19, l_20, l_21, l_22, l_23, l_24, l_25, l_26, l_27, l_28, l_29, l_30, l_31, l_32, l_38, l_40, l_41, l_42, l_43, l_45, l_48, l_54, l_56, l_57, l_59, l_60, l_61, l_63, l_68, l_76, l_96, l_97, l_99, l_100, l_101, l_102, l_103, l_104, l_105, l_106, l_108, l_122, l_124, l_126, l_132, l_255, l_1000, l_1100, l_1134, l_1135, l_1148, l_1154, l_1188, l_1202, l_9999]
    refine wp_mono (c_wears hS1 hc6 g o3) fun P2 ⟨k1, k2⟩ => ?_
    simp only [false_and, if_false]
    have := fall _ P2 k1 (by rw [up_ne (by omega), p_loose_lo (by omega)]; exact o2) (hf1.trans (i2 k2))
    rw [p_fall_up] at this
    exact this
end C
/-! the component's hour, cloth by cloth, is the reference's -/
def p_cmN (R : Nat → Nat) (cp cd : Option (List (Nat × Nat))) (S : Nat → Nat) (w : Nat) : Nat → (Nat → Nat) × Nat
  | 0 => (S, 0)
  | c + 1 => let q := p_cmN R cp cd S w c
    if q.1 (14 + c) = 0 then q else (p_dr R cd (p_pl R cp q.1 c w).1 c w, q.2 + if (p_pl R cp q.1 c w).2 then 1 else 0)
theorem p_dr_ne {R : Nat → Nat} {cd : Option (List (Nat × Nat))} {S : Nat → Nat} {c w j : Nat} (h : j ≠ 2 + c) : p_dr R cd S c w j = S j := by
  unfold p_dr
  split
  · rfl
  · exact up_ne h
theorem p_drN_ne {R : Nat → Nat} {cd : Option (List (Nat × Nat))} {S : Nat → Nat} {w j : Nat} : ∀ k, (∀ c, c < k → j ≠ 2 + c) → p_drN R cd S w k j = S j := by
  intro k
  induction k with
  | zero => intro _; rfl
  | succ k ih =>
    intro h
    show p_dr R cd (p_drN R cd S w k) k w j = _
    rw [p_dr_ne (h k (by omega))]
    exact ih (fun c hc => h c (by omega))
/-- pulling at a cloth reads and writes nothing that another one's drying does -/
theorem p_pl_up {R : Nat → Nat} {cp : Option (List (Nat × Nat))} {S : Nat → Nat} {c d w v : Nat} (hd : d ≠ c) (hd6 : d < 6) (hc6 : c < 6) : p_pl R cp (up S (2 + d) v) c w = (up (p_pl R cp S c w).1 (2 + d) v, (p_pl R cp S c w).2) := by
  have hg : ∀ x, p_grips (up S (2 + d) v) x = p_grips S x := fun x => sm_congr (fun p _ => by rw [up_ne (by omega)])
  have hl : ∀ x, p_loose (up S (2 + d) v) x = up (p_loose S x) (2 + d) v := fun x => by
    funext j
    unfold p_loose
    by_cases e : j = 2 + d
    · rw [if_neg (by omega), up_eq e, up_eq e]
    · rw [up_ne e, up_ne e]
  have hk : ∀ (T : Nat → Nat) x, p_kept (up T (2 + d) v) x = p_kept T x := fun T x => qk_congr (fun p _ => by rw [up_ne (by omega)])
  have hcomm : ∀ (T : Nat → Nat) i u, i ≠ 2 + d → up (up T (2 + d) v) i u = up (up T i u) (2 + d) v := fun T i u hi => by
    funext j
    by_cases e1 : j = i
    · rw [up_eq e1, up_ne (by omega), up_eq e1]
    · rw [up_ne e1]
      by_cases e2 : j = 2 + d
      · rw [up_eq e2, up_eq e2]
      · rw [up_ne e2, up_ne e2, up_ne e1]
  unfold p_pl
  dsimp only
  rw [up_ne (show 14 + c ≠ 2 + d by omega), up_ne (show 2 + c ≠ 2 + d by omega), hg, hl, hk]
  split
  · rfl
  · split
    · rw [hcomm _ _ _ (by omega)]
    · unfold p_fall
      rw [hcomm _ _ _ (by omega), hcomm _ _ _ (by omega), up_ne (show 8 + c ≠ 2 + d by omega), hcomm _ _ _ (by omega)]
theorem p_pl_drN {R : Nat → Nat} {cp cd : Option (List (Nat × Nat))} {T : Nat → Nat} {w c : Nat} (hc6 : c < 6) : ∀ k, k ≤ c → p_pl R cp (p_drN R cd T w k) c w = (p_drN R cd (p_pl R cp T c w).1 w k, (p_pl R cp T c w).2) := by
  intro k
  induction k with
  | zero => intro _; rfl
  | succ k ih =>
    intro hk
    have h1 := ih (by omega)
    show p_pl R cp (p_dr R cd (p_drN R cd T w k) k w) c w = (p_dr R cd (p_drN R cd (p_pl R cp T c w).1 w k) k w, _)
    -- what the drying of k reads is not changed by the pulling at c
    have e : ∀ j, (j = 14 + k ∨ j = 2 + k) → p_drN R cd (p_pl R cp T c w).1 w k j = p_drN R cd T w k j := by
      intro j hj
      rw [p_drN_ne k (by omega), p_drN_ne k (by omega)]
      unfold p_pl
      dsimp only
      split
      · rfl
      · split
        · dsimp only
          rw [up_ne (by omega), p_loose_lo (by omega)]
        · unfold p_fall
          dsimp only
          rw [up_ne (by omega), up_ne (by omega), up_ne (by omega), p_loose_lo (by omega)]
    unfold p_dr
    rw [e _ (Or.inl rfl), e _ (Or.inr rfl)]
    by_cases q : p_drN R cd T w k (14 + k) = 0
    · rw [if_pos q, if_pos q, h1]
    · rw [if_neg q, if_neg q, p_pl_up (by omega) (by omega) hc6, h1]
theorem p_cmN_eq {R : Nat → Nat} {cp cd : Option (List (Nat × Nat))} {S : Nat → Nat} {w : Nat} : ∀ k, k ≤ 6 → p_cmN R cp cd S w k = (p_drN R cd (p_plN R cp S w k).1 w k, (p_plN R cp S w k).2) := by
  intro k
  induction k with
  | zero => intro _; rfl
  | succ k ih =>
    intro hk
    have h1 := ih (by omega)
    have e14 : p_drN R cd (p_plN R cp S w k).1 w k (14 + k) = (p_plN R cp S w k).1 (14 + k) := p_drN_ne k (by omega)
    unfold p_cmN p_plN
    dsimp only
    rw [h1]
    dsimp only
    by_cases q : (p_plN R cp S w k).1 (14 + k) = 0
    · rw [if_pos (e14.trans q), if_pos q]
      show _ = (p_dr R cd (p_drN R cd (p_plN R cp S w k).1 w k) k w, _)
      unfold p_dr
      rw [if_pos (e14.trans q)]
    · rw [if_neg (fun z => q (e14.symm.trans z)), if_neg q, p_pl_drN (by omega) k (Nat.le_refl _)]
      rfl
theorem p_pl_far {R : Nat → Nat} {cp cd : Option (List (Nat × Nat))} {S : Nat → Nat} {c w j : Nat} (h1 : j < 20) (h2 : j ≠ 2 + c) (h3 : j ≠ 8 + c) (h4 : j ≠ 14 + c) : p_dr R cd (p_pl R cp S c w).1 c w j = S j := by
  rw [p_dr_ne h2]
  unfold p_pl
  dsimp only
  split
  · rfl
  · split
    · dsimp only
      rw [up_ne h4, p_loose_lo h1]
    · unfold p_fall
      dsimp only
      rw [up_ne h3, up_ne h2, up_ne h4, p_loose_lo h1]
theorem p_cmN_0 {R : Nat → Nat} {cp cd : Option (List (Nat × Nat))} {S : Nat → Nat} {w : Nat} : ∀ k, k ≤ 6 → (p_cmN R cp cd S w k).1 0 = S 0 := by
  intro k
  induction k with
  | zero => intro _; rfl
  | succ k ih =>
    intro hk
    unfold p_cmN
    dsimp only
    split
    · exact ih (by omega)
    · rw [← ih (by omega)]
      exact p_pl_far (by omega) (by omega) (by omega) (by omega)
theorem p_pass_cm {R : Nat → Nat} {cp cd : Option (List (Nat × Nat))} {S : Nat → Nat} {more : Nat} (h6 : R 0 ≤ 6) : p_pass R cp cd S more = (up (p_cmN R cp cd S (p_wind R (S 0) + more) (R 0)).1 0 (S 0 + 1), (p_cmN R cp cd S (p_wind R (S 0) + more) (R 0)).2) := by
  have h0 := p_cmN_0 (R := R) (cp := cp) (cd := cd) (S := S) (w := p_wind R (S 0) + more) (R 0) h6
  rw [p_cmN_eq _ h6] at h0 ⊢
  unfold p_pass
  dsimp only at h0 ⊢
  rw [h0]
theorem p_wind_le {R : Nat → Nat} (okr : okR R) (k : Nat) : p_wind R k ≤ 1000 := okr.2.2.2.2.2.2 _
section C
variable {K : mm_K} {P : mm_P} {N px : Nat} {R : Nat → Nat} {cp cd : Option (List (Nat × Nat))}
theorem okS.cmN {S : Nat → Nat} {w hh : Nat} (ok : okS R hh S) (h6 : R 0 ≤ 6) : ∀ k, k ≤ R 0 → okS R hh (p_cmN R cp cd S w k).1 := by
  intro k hk
  rw [p_cmN_eq k (by omega)]
  exact (ok.plN h6 k hk).drN k (by omega)
theorem c_passes (h : cP K P N px R cp cd) (okr : okR R) (hx : px < N) {S : Nat → Nat} {a more hh : Nat} (hS : cS P a S) (ok : okS R hh S) (hhh : hh < 1000000) (hk : K.1 a = 4) (hm : more < 10) : wp (fX1_passes K px a (n32 more) P) (fun r => r.1 = n32 (p_pass R cp cd S more).2 ∧ cS r.2 a (p_pass R cp cd S more).1 ∧ fr (fun r b => cf px r b ∨ cw a r b) P r.2) := by
  have h6 := okr.1
  have h0 := ok.1
  obtain ⟨ro, r1, r2, r3⟩ := c_wind (k := S 0) h okr (by omega)
  have hwd := p_wind_le okr (S 0)
  have i3 : ∀ {P P' : mm_P}, fr (fun r b => cf px r b ∨ cw a r b) P P' → fr cz P P' := fun hf => hf.mono (fun r b z => by
    rcases z with z | z
    · exact Or.inl z.1
    · exact Or.inr z.2)
  unfold fX1_passes
  rw [r1, bd_some, gd_pos hk, gd_pos r2, hS.1, r3, bd_some, lt_eq, n32_add, p_pass_cm h6]
  generalize p_wind R (S 0) + more = w
  refine wp_loop0 (σ := Int32 × mm_P) (β := Int32 × mm_P) (L := fun n k s => fX1_passes_b20 K px n a s.1 (n32 w) (n32 k) s.2) (fun k s => s.1 = n32 (p_cmN R cp cd S w k).2 ∧ cS s.2 a (p_cmN R cp cd S w k).1 ∧ fr (fun r b => cf px r b ∨ cw a r b) P s.2) (s := (n32 0, P)) (R 0) (by omega) ⟨rfl, hS, fr_refl _ _⟩ ?_ ?_
  · intro n k s hkn ⟨e1, e2, e3⟩ ih
    obtain ⟨u, P1⟩ := s
    dsimp only at e1 e2 e3 ⊢
    subst e1
    have ok1 := ok.cmN (cp := cp) (cd := cd) (w := w) h6 k (by omega)
    have h1 := cP_frz h (i3 e3) hx
    have hb := c_by e2 (show k < 6 by omega) (ok1.2.2.1 k (by omega)).2.2
    have hlt := (ok1.2.2.1 k (by omega)).2.2
    have hle : (p_cmN R cp cd S w k).2 ≤ k := by
      rw [p_cmN_eq k (by omega)]
      exact p_plN_le k
    by_cases q : (p_cmN R cp cd S w k).1 (14 + k) = 0
    · have e : p_cmN R cp cd S w (k + 1) = p_cmN R cp cd S w k := if_pos q
      rw [q] at hb
      simp (disch := omega) only [fX1_passes_b20, c_cloths h1, gd_pos hk, hb, gd_true, gd_pos, bd_some, lt_eq, on_some, on_none, if_pos, if_neg, ne_eq, n32_add, n32_mul, n32_in, n32_cl, n32_lt, n32_le, n32_inj, n32_m1_lt, n32_m1_le, n32_lt_m1, n32_le_m1, n32_eq_m1, n32_m1_eq, not_true_eq_false, not_false_eq_true, ite_true, ite_false, Nat.add_assoc, true_and, and_true, decide_true, decide_false, Bool.and_true, Bool.true_and, Bool.and_false, Bool.false_and, Bool.not_true, Bool.not_false, Bool.false_eq_true, Nat.lt_irrefl, Nat.not_lt_zero, l_0, l_1, l_2, l_3, l_4, l_5, l_6, l_7, l_8, l_9, l_10, l_11, l_12, l_13, l_14, l_15, l_16, l_17, l_18, l_19, l_20, l_21, l_22, l_23, l_24, l_25, l_26, l_27, l_28, l_29, l_30, l_31, l_32, l_38, l_40, l_41, l_42, l_43, l_45, l_48, l_54, l_56, l_57, l_59, l_60, l_61, l_63, l_68, l_76, l_96, l_97, l_99, l_100, l_101, l_102, l_103, l_104, l_105, l_106, l_108, l_122, l_124, l_126, l_132, l_255, l_1000, l_1100, l_1134, l_1135, l_1148, l_1154, l_1188, l_1202, l_9999]
      exact ih (n32 (p_cmN R cp cd S w k).2, P1) ⟨by rw [e], by rw [e]; exact e2, e3⟩
    · have e : p_cmN R cp cd S w (k + 1) = (p_dr R cd (p_pl R cp (p_cmN R cp cd S w k).1 k w).1 k w, (p_cmN R cp cd S w k).2 + if (p_pl R cp (p_cmN R cp cd S w k).1 k w).2 then 1 else 0) := if_neg q
      simp (disch := omega) only [fX1_passes_b20, c_cloths h1, gd_pos hk, hb, q, wp_bd, gd_true, gd_pos, bd_some, lt_eq, on_some, on_none, if_pos, if_neg, ne_eq, n32_add, n32_mul, n32_in, n32_cl, n32_lt, n32_le, n32_inj, n32_m1_lt, n32_m1_le, n32_lt_m1, n32_le_m1, n32_eq_m1, n32_m1_eq, not_true_eq_false, not_false_eq_true, ite_true, ite_false, Nat.add_assoc, true_and, and_true, decide_true, decide_false, Bool.and_true, Bool.true_and, Bool.and_false, Bool.false_and, Bool.not_true, Bool.not_false, Bool.false_eq_true, Nat.lt_irrefl, Nat.not_lt_zero, l_0, l_1, l_2, l_3, l_4, l_5, l_6, l_7, l_8, l_9, l_10, l_11, l_12, l_13, l_14, l_15, l_16, l_17, l_18, l_19, l_20, l_21, l_22, l_23, l_24, l_25, l_26, l_27, l_28, l_29, l_30, l_31, l_32, l_38, l_40, l_41, l_42, l_43, l_45, l_48, l_54, l_56, l_57, l_59, l_60, l_61, l_63, l_68, l_76, l_96, l_97, l_99, l_100, l_101, l_102, l_103, l_104, l_105, l_106, l_108, l_122, l_124, l_126, l_132, l_255, l_1000, l_1100, l_1134, l_1135, l_1148, l_1154, l_1188, l_1202, l_9999]
      refine wp_mono (c_blows h1 okr hx e2 ok1 hk hkn q) fun r ⟨b1, b3, b4⟩ => ?_
      obtain ⟨u, P2⟩ := r
      dsimp only at b1 b3 b4 ⊢
      subst b1
      cases qf : (p_pl R cp (p_cmN R cp cd S w k).1 k w).2 with
      | true =>
        simp (disch := omega) only [b2, gd_true, gd_pos, bd_some, lt_eq, on_some, on_none, if_pos, if_neg, ne_eq, n32_add, n32_mul, n32_in, n32_cl, n32_lt, n32_le, n32_inj, n32_m1_lt, n32_m1_le, n32_lt_m1, n32_le_m1, n32_eq_m1, n32_m1_eq, not_true_eq_false, not_false_eq_true, ite_true, ite_false, Nat.add_assoc, true_and, and_true, decide_true, decide_false, Bool.and_true, Bool.true_and, Bool.and_false, Bool.false_and, Bool.not_true, Bool.not_false, Bool.false_eq_true, Nat.lt_irrefl, Nat.not_lt_zero, l_0, l_1, l_2, l_3, l_4, l_5, l_6, l_7, l_8, l_9, l_10, l_11, l_12, l_13, l_14, l_15, l_16, l_17, l_18, l_19, l_20, l_21, l_22, l_23, l_24, l_25, l_26, l_27, l_28, l_29, l_30, l_31, l_32, l_38, l_40, l_41, l_42, l_43, l_45, l_48, l_54, l_56, l_57, l_59, l_60, l_61, l_63, l_68, l_76, l_96, l_97, l_99, l_100, l_101, l_102, l_103, l_104, l_105, l_106, l_108, l_122, l_124, l_126, l_132, l_255, l_1000, l_1100, l_1134, l_1135, l_1148, l_1154, l_1188, l_1202, l_9999]
        exact ih (n32 ((p_cmN R cp cd S w k).2 + 1), P2) ⟨by rw [e, qf]; rfl, by rw [e]; exact b3, e3.trans b4⟩
      | false =>
        simp (disch := omega) only [b2, gd_true, gd_pos, bd_some, lt_eq, on_some, on_none, if_pos, if_neg, ne_eq, n32_add, n32_mul, n32_in, n32_cl, n32_lt, n32_le, n32_inj, n32_m1_lt, n32_m1_le, n32_lt_m1, n32_le_m1, n32_eq_m1, n32_m1_eq, not_true_eq_false, not_false_eq_true, ite_true, ite_false, Nat.add_assoc, true_and, and_true, decide_true, decide_false, Bool.and_true, Bool.true_and, Bool.and_false, Bool.false_and, Bool.not_true, Bool.not_false, Bool.false_eq_true, Nat.lt_irrefl, Nat.not_lt_zero, l_0, l_1, l_2, l_3, l_4, l_5, l_6, l_7, l_8, l_9, l_10, l_11, l_12, l_13, l_14, l_15, l_16, l_17, l_18, l_19, l_20, l_21, l_22, l_23, l_24, l_25, l_26, l_27, l_28, l_29, l_30, l_31, l_32, l_38, l_40, l_41, l_42, l_43, l_45, l_48, l_54, l_56, l_57, l_59, l_60, l_61, l_63, l_68, l_76, l_96, l_97, l_99, l_100, l_101, l_102, l_103, l_104, l_105, l_106, l_108, l_122, l_124, l_126, l_132, l_255, l_1000, l_1100, l_1134, l_1135, l_1148, l_1154, l_1188, l_1202, l_9999]
        exact ih (n32 (p_cmN R cp cd S w k).2, P2) ⟨by rw [e, qf]; rfl, by rw [e]; exact b3, e3.trans b4⟩
  · intro n s ⟨e1, e2, e3⟩
    obtain ⟨u, P1⟩ := s
    dsimp only at e1 e2 e3 ⊢
    subst e1
    have h1 := cP_frz h (i3 e3) hx
    have hg := e2.1
    rw [p_cmN_0 (R 0) h6] at hg
    simp (disch := omega) only [fX1_passes_b20, c_cloths h1, gd_pos hk, hg, wp_some, gd_true, gd_pos, bd_some, lt_eq, on_some, on_none, if_pos, if_neg, ne_eq, n32_add, n32_mul, n32_in, n32_cl, n32_lt, n32_le, n32_inj, n32_m1_lt, n32_m1_le, n32_lt_m1, n32_le_m1, n32_eq_m1, n32_m1_eq, not_true_eq_false, not_false_eq_true, ite_true, ite_false, Nat.add_assoc, true_and, and_true, decide_true, decide_false, Bool.and_true, Bool.true_and, Bool.and_false, Bool.false_and, Bool.not_true, Bool.not_false, Bool.false_eq_true, Nat.lt_irrefl, Nat.not_lt_zero, l_0, l_1, l_2, l_3, l_4, l_5, l_6, l_7, l_8, l_9, l_10, l_11, l_12, l_13, l_14, l_15, l_16, l_17, l_18, l_19, l_20, l_21, l_22, l_23, l_24, l_25, l_26, l_27, l_28, l_29, l_30, l_31, l_32, l_38, l_40, l_41, l_42, l_43, l_45, l_48, l_54, l_56, l_57, l_59, l_60, l_61, l_63, l_68, l_76, l_96, l_97, l_99, l_100, l_101, l_102, l_103, l_104, l_105, l_106, l_108, l_122, l_124, l_126, l_132, l_255, l_1000, l_1100, l_1134, l_1135, l_1148, l_1154, l_1188, l_1202, l_9999]
    refine ⟨e2.hour, fr_sI e3 (Or.inr ⟨rfl, by decide, by decide⟩)⟩
end C
