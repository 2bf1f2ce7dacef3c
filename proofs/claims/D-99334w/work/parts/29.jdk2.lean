/-! the clone of a byte array; the copy of an Object[] -/
set_option maxRecDepth 100000
section JDK2
variable {α : Type} {E : mm_E} {own : String} {cc : ByteArray} {nL : Nat} {ret : Option FieldType} {FR LC : Nat} {w : α → mm_O} {pc : Nat} {ls : List (Option Value)} {st : List Value} {K : mm_K} {P : mm_P} {nx sl : Nat} {f : Option α}
theorem mm_cl_old {cA : Nat → ClassId} {K : mm_K} {P : mm_P} {a n r z b o : Nat} (hb : b ≠ a) : mm_cell cA (mm_kn K a 65 n) (mm_clP P r z a) b o = mm_cell cA K P b o := by
  have e1 : (mm_kn K a 65 n).1 b = K.1 b := if_neg hb
  have e2 : (mm_kn K a 65 n).2 b = K.2 b := if_neg hb
  have hac : ∀ ek m r', mm_ac (mm_clP P r z a) ek m r' b = mm_ac P ek m r' b := by
    intro ek m r'
    have h4 : gA (mm_clP P r z a) r' b = gA P r' b := by funext i; exact if_neg hb
    have h5 : gB (mm_clP P r z a) r' b = gB P r' b := by funext i; exact if_neg hb
    have h6 : gL (mm_clP P r z a) r' b = gL P r' b := by funext i; exact if_neg hb
    unfold mm_ac
    rw [h4, h5, h6]
  have hfs : ∀ l c, mm_fs (mm_clP P r z a) b c l = mm_fs P b c l := fun l c => mm_fs_eq (fun i e _ => by
    have h1 : gI (mm_clP P r z a) (c + i) b = gI P (c + i) b := if_neg hb
    have h2 : gR (mm_clP P r z a) (c + i) b = gR P (c + i) b := if_neg hb
    have h3 : gJ (mm_clP P r z a) (c + i) b = gJ P (c + i) b := if_neg hb
    unfold mm_fv
    rw [h1, h2, h3])
  unfold mm_cell
  rw [e1, e2]
  by_cases ho : o = 0
  · rw [if_pos ho, if_pos ho]
    cases hf : mm_fd (K.1 b) with
    | some l => dsimp only; rw [hfs]
    | none => dsimp only; congr 1; funext ek; rw [hac]
  · rw [if_neg ho, if_neg ho]
    congr 1
    funext q
    rw [hac]
theorem r_cloneB (C : mm_Cx E own cc nL ret FR LC) {index r a off n adr : Nat} (hl : Cond.methodLink own index ⟨"[B", "clone", "()Ljava/lang/Object;"⟩ ∈ lw_all) (h1 : Cond.sameMethod "[B" "java/lang/Object" "clone" "()Ljava/lang/Object;" ∈ lw_all) (h2 : Cond.native ⟨"java/lang/Object", "clone", "()Ljava/lang/Object;"⟩ ∈ lw_all) (h3 : Cond.instanceMethod ⟨"java/lang/Object", "clone", "()Ljava/lang/Object;"⟩ ∈ lw_all) (h4 : Cond.selects "[B" ⟨"[B", "clone", "()Ljava/lang/Object;"⟩ ⟨"java/lang/Object", "clone", "()Ljava/lang/Object;"⟩ ∈ lw_all) (h5 : Cond.castable "[B" "java/lang/Cloneable" ∈ nw_all) (hr : mm_reg K r a off 1 n) (hro : mm_ro (K.1 a) = false) (hadr : a + off = adr) (hfr : 1 ≤ FR) (hlc : 22 ≤ LC) (hw : (st.map fun v => v.category).sum ≤ 8) (dd : decode cc pc = .ok (.invokevirtual index, 3))
    (kk : mm_V E w (pc + 3) ls (.ref nx :: st) (mm_kn K nx 65 n) (mm_clP P r a nx) (nx + 1) (sl + n) f) : mm_V E w pc ls (.ref adr :: st) K P nx sl (mm_gd (mm_fit P r a 0 n) (mm_mo w (nx + 1) (sl + n) f)) := by
  subst hadr
  refine r_gd fun hfit => ?_
  intro out ho H locs la hI
  obtain ⟨ho1, hm1, hm2⟩ := mm_mo_some ho
  obtain ⟨hls, hW, hsz, hn1, hs1, hS, hc1, hc2⟩ := hI
  have hpos := C.pos
  have hszs := C.sz
  have hat : H[a + off]? = some (vp_cell ((eF E).1 1) (n, .inl (gA P r a))) := hW.at (mm_cell_arr (cA := (eF E).1) (P := P) hr) (mm_xt_ro hro)
  have hnm : (eS E).vm.findClass "[B" = some ((eF E).1 1) := (C.k.2 1 _ rfl).2
  obtain ⟨c0, t0', f1, f2, f3⟩ := Cond.castable_spec (va_Nw.use (A := eV E) rfl (C.nw _ h5))
  cases hnm.symm.trans f1
  have hslots : (vp_cell ((eF E).1 1) (n, .inl (gA P r a))).slots.size = n := arrV_size _ _ _
  intro T hT X
  have hcellT : T.heap[a + off]? = some (vp_cell ((eF E).1 1) (n, .inl (gA P r a))) := by rw [hT]; exact hat
  obtain ⟨-, kA, hkA, comp, hkind⟩ := State.isArrayOf_alike X.warmed.alike ((C.k.2 1 _ rfl).1 0 (fun _ => .null))
  obtain ⟨-, kS, hkS, compS, hkindS⟩ := (C.k.2 1 _ rfl).1 0 (fun _ => .null)
  obtain ⟨vm', X', stp⟩ := X.cloneArray C.x C.ow (C.ts _ hl) (C.ts _ h1) (C.ts _ h2) (C.ts _ h3) (C.ts _ h4) (a := a + off) (cell := vp_cell ((eF E).1 1) (n, .inl (gA P r a))) hcellT (fun k h => by cases h) (fun h => by cases h) hnm f2 f3
    (fun i v hv => by
      have hk' : T.vm.classes[(eF E).1 1]? = some kA := hkA
      have hi : i < n := by
        have := (Array.getElem?_eq_some_iff.mp hv).1
        rw [hslots] at this
        exact this
      have hv2 : v = .int (gA P r a i) := by
        have := arrV_read ((eF E).1 1) (fun j => Value.int (gA P r a j)) hi
        exact Option.some.inj (hv.symm.trans this)
      have hf2 : fits (mm_ety 1) v = true := by
        rw [hv2]
        have := hfit i hi
        rw [Nat.zero_add] at this
        exact this
      show T.fitsSlot ((eF E).1 1) _ _ _ = true
      simpa [State.fitsSlot, State.slotType?, hk', hkind] using hf2)
    (g := F0 (eM E) pc la (.ref (a + off) :: st)) rfl hls.1 rfl (by rw [C.b]; exact dd) (by rw [C.fr]; exact hfr) (by show 2 * 0 + _ + 14 ≤ _; rw [C.lc]; omega) (by omega) (by rw [hslots]; omega) (hloader := Vm.clonesLoader_of_array hkS hkindS)
  have hcellE : ({ cls := (vp_cell ((eF E).1 1) (n, .inl (gA P r a))).cls, slots := (vp_cell ((eF E).1 1) (n, .inl (gA P r a))).slots } : Cell) = vp_cell ((eF E).1 1) (n, .inl (gA P r a)) := rfl
  rw [hcellE, hslots] at X'
  have hreg : mm_reg (mm_kn K H.size 65 n) 8193 H.size 0 1 n := by
    have := rg_sa (K := mm_kn K H.size 65 n) (a := H.size) (ek := 1) mm_kn_1 (by omega)
    rw [mm_kn_2] at this
    exact this
  have hcell := mm_cell_arr (cA := (eF E).1) (P := mm_clP P r a H.size) hreg
  have hgA : gA (mm_clP P r a H.size) 8193 H.size = gA P r a := by
    funext i
    show (if _ then (if _ then _ else _) else _) = _
    rw [if_pos rfl, if_pos rfl]
  have o1 : ∀ q : Nat, q < H.size → (H.push (vp_cell ((eF E).1 1) (n, .inl (gA P r a))))[q]? = H[q]? := fun q hq => by rw [Array.getElem?_push, if_neg (Nat.ne_of_lt hq)]
  have hW1 := hW.newG (P' := mm_clP P r a H.size) (k := 65) (n := n) (H' := H.push (vp_cell ((eF E).1 1) (n, .inl (gA P r a)))) (fun b o hb => mm_cl_old hb) (fun i hi => if_neg (by omega)) hcell (fun o ho => rfl) (by
    show (H.push _)[H.size]? = some (vp_cell ((eF E).1 1) (n, .inl (gA _ 8193 H.size)))
    rw [hgA]
    exact Array.getElem?_push_size) (C.a _ hS.1) o1 (mm_xt_lt (by decide))
  have e3 : nx - eN E + 1 = nx + 1 - eN E := by omega
  have e4 : sl - eO E + n = sl + n - eO E := by omega
  rw [e3, e4] at X'
  rw [hsz] at hW1
  obtain ⟨t, b1, b2⟩ := kk out ho1 _ locs la ⟨hls, hW1, by simp [hsz], ⟨by omega, hm1⟩, ⟨by omega, hm2⟩, ⟨Nat.le_trans hS.1 (by simp), fun x h1 h2 => (o1 x (Nat.lt_of_lt_of_le h1 hS.1)).trans (hS.2.1 x h1 h2), hS.2.2⟩, hc1, hc2⟩ ((T.setVm vm').pushCell (vp_cell ((eF E).1 1) (n, .inl (gA P r a)))) (by rw [← hT]; rfl) X'
  refine ⟨t, stp t ?_, b2⟩
  rw [hcellE, hT, hsz]
  exact b1
/-- what stands in the part that is copied: objects of Cloth's or Line's kinds, or null -/
def mm_cpo (K : mm_K) (P : mm_P) (r a sp n : Nat) : Bool := (List.range n).all (fun i => match gB P r a (sp + i) with
  | none => true
  | some y => decide (mm_isC (K.1 y)) || decide (mm_isL (K.1 y)))
theorem r_copyO (C : mm_Cx E own cc nL ret FR LC) (hcs : ∀ k, mm_isC k ∨ mm_isL k → mm_CS2 4 k) {index r0 a0 o0 n0 r1 a1 o1 n1 adr0 adr1 : Nat} {sp dp n : Int32} (hl : Cond.methodLink own index arraycopyName ∈ lw_all) (h8 : Cond.native arraycopyName ∈ lw_all) (h9 : Cond.static arraycopyName ∈ lw_all) (h10 : Cond.initialized "java/lang/System" ∈ lw_all) (hr0 : mm_reg K r0 a0 o0 4 n0) (hr1 : mm_reg K r1 a1 o1 4 n1) (hro : mm_ro (K.1 a1) = false) (ha0 : a0 + o0 = adr0) (ha1 : a1 + o1 = adr1) (hfr : 1 ≤ FR) (hlc : 40 ≤ LC) (hw : (st.map fun v => v.category).sum ≤ 8) (dd : decode cc pc = .ok (.invokestatic index, 3))
    (kk : mm_cpc n0 n1 sp dp n → mm_V E w (pc + 3) ls st K (mm_cpB P r0 a0 r1 a1 sp.toNatClampNeg dp.toNatClampNeg n.toNatClampNeg) nx sl f) : mm_V E w pc ls (.int n :: .int dp :: .ref adr1 :: .int sp :: .ref adr0 :: st) K P nx sl (mm_gd (mm_cpc n0 n1 sp dp n) (mm_gd (mm_cpo K P r0 a0 sp.toNatClampNeg n.toNatClampNeg = true) f)) := by
  subst ha0
  subst ha1
  refine r_gd fun hc => r_gd fun hel => ?_
  intro out ho H locs la hI
  have kk := kk hc
  obtain ⟨h1, h2, h3, h4, h5⟩ := hc
  obtain ⟨hls, hW, hsz, hn1, hs1, hS, hc1, hc2⟩ := hI
  have hcell0 := mm_cell_arr (cA := (eF E).1) (P := P) hr0
  have hcell1 := mm_cell_arr (cA := (eF E).1) (P := P) hr1
  have hc0 : H[a0 + o0]? = some (vp_cell ((eF E).1 4) (n0, .inr (.inr (.inr (.inr (gB P r0 a0)))))) := hW.at hcell0 (mm_xt_reg hr0 (by decide))
  have hc1' : H[a1 + o1]? = some (vp_cell ((eF E).1 4) (n1, .inr (.inr (.inr (.inr (gB P r1 a1)))))) := hW.at hcell1 (mm_xt_ro hro)
  intro T hT X
  obtain ⟨-, k0, hk0, cm0, hkk0⟩ := (C.k.2 4 _ rfl).1 n0 (fun j => va_rf (gB P r0 a0 j))
  obtain ⟨-, k1, hk1, cm1, hkk1⟩ := (C.k.2 4 _ rfl).1 n1 (fun j => va_rf (gB P r1 a1 j))
  obtain ⟨vm', X', step⟩ := X.arraycopy C.x C.ow (C.ts _ hl) (C.ts _ h8) (C.ts _ h9) (C.ts _ h10) (src := a0 + o0) (dst := a1 + o1) (cs := vp_cell ((eF E).1 4) (n0, .inr (.inr (.inr (.inr (gB P r0 a0)))))) (cd := vp_cell ((eF E).1 4) (n1, .inr (.inr (.inr (.inr (gB P r1 a1)))))) (srcPos := sp) (destPos := dp) (n := n) (by rw [hT]; exact hc0) (by rw [hT]; exact hc1')
    (fun _ h => by cases h) (fun _ h => by cases h) (fun h => by cases h) (fun h => by cases h) hk0 hk1 hkk0 hkk1 rfl h1 h2 h3
    (by rw [mm_nn sp h1, mm_nn n h3]; show ¬ _ > ((arrV _ n0 (fun j => va_rf (gB P r0 a0 j))).slots.size : Int); rw [arrV_size]; omega)
    (by rw [mm_nn dp h2, mm_nn n h3]; show ¬ _ > ((arrV _ n1 (fun j => va_rf (gB P r1 a1 j))).slots.size : Int); rw [arrV_size]; omega)
    (fun vm₁ hal i hi => by
      have e : (vp_cell ((eF E).1 4) (n0, .inr (.inr (.inr (.inr (gB P r0 a0)))))).slots.getD (sp.toNatClampNeg + i) .null = va_rf (gB P r0 a0 (sp.toNatClampNeg + i)) := by
        show (arrV _ n0 (fun j => va_rf (gB P r0 a0 j))).slots.getD _ _ = _
        rw [Array.getD_eq_getD_getElem?, arrV_read _ _ (by omega)]
        rfl
      rw [e]
      have hel1 := List.all_eq_true.mp hel i (List.mem_range.mpr hi)
      cases hy : gB P r0 a0 (sp.toNatClampNeg + i) with
      | none => exact ⟨rfl, trivial⟩
      | some y =>
        rw [hy] at hel1
        have hky : mm_isC (K.1 y) ∨ mm_isL (K.1 y) := by simpa using hel1
        obtain ⟨Cn, T0, N0, l0, g1, g2, g3⟩ := hcs _ hky
        have hasg0 : ∀ comp c0 : ClassId, (eS E).vm.findClass "java/lang/Object" = some comp → (eS E).vm.findClass Cn = some c0 → (eS E).vm.assignable c0 comp = true := by
          intro comp c0 q1 q2
          rcases g3 with g3 | g3
          · have hcls := (C.k.1 _ _ g1).2
            have e1 : comp = (eD E).1 (mm_ci (K.1 y)) := Option.some.inj (q1.symm.trans (by have := hcls.1; rw [g3] at this; exact this))
            have e2 : c0 = (eD E).1 (mm_ci (K.1 y)) := Option.some.inj (q2.symm.trans hcls.1)
            rw [e1, e2]
            exact va_assign hcls
          · exact vb_asgC (C.nw _ g3) comp c0 q1 q2
        obtain ⟨cellV, g4, g5, ⟨kC, hkC⟩, hasg⟩ := va_rAny (E := "java/lang/Object") C.k (mm_P1 (hW.at (mm_cell_obj (cA := (eF E).1) (P := P) rfl g2))) (q0 := 0) rfl g1 hasg0
        obtain ⟨kA, comp, r1', r2, r3, -⟩ := (C.k.2 4 _ rfl).2
        cases hk1.symm.trans r1'
        cases hkk1.symm.trans r2
        obtain ⟨kE, hkE, -⟩ := Vm.findClass_spec r3
        obtain ⟨kC', hkC', -⟩ := hal.2.2 _ _ hkC
        obtain ⟨kE', hkE', -⟩ := hal.2.2 _ _ hkE
        refine ⟨rfl, cellV, (show T.heap[y]? = some cellV by rw [hT]; exact g4), (fun q h => by rw [h] at g5; cases g5), ⟨kC', hkC'⟩, ?_, ?_⟩
        · exact ⟨kE', hkE'⟩
        · show vm₁.assignable _ _ = true
          rw [hal.assignable]
          exact hasg _ r3)
    (g := F0 (eM E) pc la (.int n :: .int dp :: .ref (a1 + o1) :: .int sp :: .ref (a0 + o0) :: st)) rfl hls.1 (rest := st) rfl (by rw [C.b]; exact dd) (by rw [C.fr]; exact hfr) (by show 2 * 0 + _ + _ ≤ _; rw [C.lc]; have hww : nativeFrameWords "java/lang/System" "arraycopy" 5 ≤ 20 := (by decide); omega)
  have e1 : copied (vp_cell ((eF E).1 4) (n0, .inr (.inr (.inr (.inr (gB P r0 a0)))))) (vp_cell ((eF E).1 4) (n1, .inr (.inr (.inr (.inr (gB P r1 a1)))))) sp dp n = vp_cell ((eF E).1 4) (n1, .inr (.inr (.inr (.inr (va_cpy (gB P r0 a0) (gB P r1 a1) sp.toNatClampNeg dp.toNatClampNeg n.toNatClampNeg))))) := by
    rw [vp_cell_q, vp_cell_q, vp_cell_q]
    exact va_copied (fun z => va_rf z) _ _ _ _ h4
  rw [e1] at X' step
  have hl1 : a1 + o1 < H.size := (Array.getElem?_eq_some_iff.mp hc1').1
  generalize hnew : vp_cell ((eF E).1 4) (n1, .inr (.inr (.inr (.inr (va_cpy (gB P r0 a0) (gB P r1 a1) sp.toNatClampNeg dp.toNatClampNeg n.toNatClampNeg))))) = newC at X' step
  have hheap : ((T.setVm vm').setCell (a1 + o1) newC).heap = H.setIfInBounds (a1 + o1) newC := by rw [← hT]; rfl
  have oq : ∀ q : Nat, q ≠ a1 + o1 → (H.setIfInBounds (a1 + o1) newC)[q]? = H[q]? := fun q hq => by simp [Array.getElem?_setIfInBounds, Ne.symm hq]
  have hoth : ∀ y z, (y ≠ r1 ∨ z ≠ a1) → gB (mm_cpB P r0 a0 r1 a1 sp.toNatClampNeg dp.toNatClampNeg n.toNatClampNeg) y z = gB P y z := by
    intro y z hyz
    funext q
    show (if _ ∧ _ then _ else _) = _
    rw [if_neg (by omega)]
    rfl
  have hself : gB (mm_cpB P r0 a0 r1 a1 sp.toNatClampNeg dp.toNatClampNeg n.toNatClampNeg) r1 a1 = va_cpy (gB P r0 a0) (gB P r1 a1) sp.toNatClampNeg dp.toNatClampNeg n.toNatClampNeg := by
    funext q
    show (if _ ∧ _ then _ else _) = _
    rw [if_pos ⟨rfl, rfl⟩]
  have hwr : eA E (a1 + o1) := hW.wr hcell1 hro
  have hW1 := hW.put (P' := mm_cpB P r0 a0 r1 a1 sp.toNatClampNeg dp.toNatClampNeg n.toNatClampNeg) (H' := H.setIfInBounds (a1 + o1) newC) (fun _ _ => rfl) hcell1 (mm_cell_arr hr1) (mm_cell_ast hr1 rfl rfl rfl (fun _ _ _ => rfl) hoth (fun _ _ _ => rfl)) (by
    show (H.setIfInBounds _ _)[a1 + o1]? = some (vp_cell ((eF E).1 4) (n1, .inr (.inr (.inr (.inr (gB _ r1 a1))))))
    rw [hself, hnew]
    simp [Array.getElem?_setIfInBounds, hl1]) oq (mm_xt_ro hro)
  obtain ⟨t, b1, b2⟩ := kk out ho _ _ la ⟨hls, hW1, by simp [hsz], hn1, hs1, ⟨by simp; exact hS.1, fun q g1 g2 => by
      rw [oq q (fun e => g2 (by rw [e]; exact hwr))]
      exact hS.2.1 q g1 g2, fun q hq => by
      rcases List.mem_append.mp hq with h | h
      · exact hS.2.2 q h
      · obtain ⟨z, -, hz⟩ := List.mem_map.mp h
        rw [← hz]
        exact hwr⟩, hc1, hc2⟩ _ hheap X'
  exact ⟨t, step t b1, b2⟩
end JDK2
