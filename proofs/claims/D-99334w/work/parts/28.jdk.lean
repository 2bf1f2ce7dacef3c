/-! copies of arrays, class objects, constant Strings -/
set_option maxRecDepth 100000
abbrev mm_isS (k : Nat) : Prop := k = 22 ∨ k = 54
theorem mm_bsS {k : Nat} (h : mm_isS k) (j : Nat) : mm_bs k + j = 2816 + j := by
  rcases h with rfl | rfl <;> rfl
def mm_cpA (P : mm_P) (r0 a0 r1 a1 sp dp n : Nat) : mm_P := (P.1, P.2.1, P.2.2.1, fun r a i => if r = r1 ∧ a = a1 then va_cpy (gA P r0 a0) (gA P r1 a1) sp dp n i else P.2.2.2.1 r a i, P.2.2.2.2)
def mm_cpB (P : mm_P) (r0 a0 r1 a1 sp dp n : Nat) : mm_P := (P.1, P.2.1, P.2.2.1, P.2.2.2.1, fun r a i => if r = r1 ∧ a = a1 then va_cpy (gB P r0 a0) (gB P r1 a1) sp dp n i else P.2.2.2.2.1 r a i, P.2.2.2.2.2)
abbrev mm_cpc (n0 n1 : Nat) (sp dp n : Int32) : Prop := ¬ sp < 0 ∧ ¬ dp < 0 ∧ ¬ n < 0 ∧ sp.toNatClampNeg + n.toNatClampNeg ≤ n0 ∧ dp.toNatClampNeg + n.toNatClampNeg ≤ n1
abbrev mm_fit (P : mm_P) (r a : Nat) (sp n : Nat) : Prop := ∀ i, i < n → fits .byte (.int (gA P r a (sp + i))) = true
theorem mm_W.newG {D : va_G} {cA : mm_G} {A0 : Nat → Prop} {K : mm_K} {P P' : mm_P} {H H' : Heap} (hW : mm_W D cA A0 K P H) {k n : Nat} {e : va_E} (hold : ∀ b o, b ≠ H.size → mm_cell cA.1 (mm_kn K H.size k n) P' b o = mm_cell cA.1 K P b o) (hz' : ∀ i, i < 128 → gR P' i 0 = gR P i 0) (hc : mm_cell cA.1 (mm_kn K H.size k n) P' H.size 0 = some e) (hn : ∀ o, o ≠ 0 → mm_ad k o = none) (hat : va_at D mm_cl (H.size, e) H') (hA : A0 H.size) (oq : ∀ q : Nat, q < H.size → H'[q]? = H[q]?) (hxk : mm_xt k e = true := by rfl) : mm_W D cA A0 (mm_kn K H.size k n) P' H' := by
  obtain ⟨hz, own, hown⟩ := hW
  refine ⟨fun i hi => (hz' i hi).trans (hz i hi), fun q => if q = H.size then (H.size, 0) else own q, fun b o x hx => ?_⟩
  by_cases hb : b = H.size
  · subst hb
    by_cases ho : o = 0
    · subst ho
      rw [hc] at hx
      cases hx
      exact ⟨if_pos rfl, fun _ => hA, mm_at.of (by rw [mm_kn_1]; exact hxk) hat⟩
    · exfalso
      unfold mm_cell at hx
      rw [if_neg ho, mm_kn_1, hn o ho] at hx
      cases hx
  · rw [hold b o hb] at hx
    obtain ⟨h1, h2, h3⟩ := hown _ _ _ hx
    have hlt : b + o < H.size := h3.lt
    refine ⟨?_, ?_, by rw [show (mm_kn K H.size k n).1 b = K.1 b from if_neg hb]; exact h3.kept (oq _ hlt)⟩
    · dsimp only
      rw [if_neg (by omega)]
      exact h1
    · intro hr
      exact h2 (by rw [← hr]; show mm_ro (K.1 b) = mm_ro (if b = H.size then k else K.1 b); rw [if_neg hb])


/-- the copy of a standalone byte array, at a new address -/
def mm_clP (P : mm_P) (r a q : Nat) : mm_P := ((mm_fresh P q).1, (mm_fresh P q).2.1, (mm_fresh P q).2.2.1, fun r' a' i => if a' = q then (if r' = 8193 then gA P r a i else 0) else P.2.2.2.1 r' a' i, (mm_fresh P q).2.2.2.2)
section JDK
variable {α : Type} {E : mm_E} {own : String} {cc : ByteArray} {nL : Nat} {ret : Option FieldType} {FR LC : Nat} {w : α → mm_O} {pc : Nat} {ls : List (Option Value)} {st : List Value} {K : mm_K} {P : mm_P} {nx sl : Nat} {f : Option α}
theorem mm_nn (z : Int32) (hz : ¬ z < 0) : z.toInt = (z.toNatClampNeg : Int) := by
  have hz0 : (0 : Int) ≤ z.toInt := by
    have := Int32.not_lt.mp hz
    simpa using Int32.le_iff_toInt_le.mp this
  show z.toInt = ((z.toInt.toNat : Nat) : Int)
  omega
theorem r_copyB (C : mm_Cx E own cc nL ret FR LC) {index r0 a0 o0 n0 r1 a1 o1 n1 adr0 adr1 : Nat} {sp dp n : Int32} (hl : Cond.methodLink own index arraycopyName ∈ lw_all) (h8 : Cond.native arraycopyName ∈ lw_all) (h9 : Cond.static arraycopyName ∈ lw_all) (h10 : Cond.initialized "java/lang/System" ∈ lw_all) (hr0 : mm_reg K r0 a0 o0 1 n0) (hro0 : mm_ro (K.1 a0) = false) (hr1 : mm_reg K r1 a1 o1 1 n1) (hro : mm_ro (K.1 a1) = false) (ha0 : a0 + o0 = adr0) (ha1 : a1 + o1 = adr1) (hfr : 1 ≤ FR) (hlc : 40 ≤ LC) (hw : (st.map fun v => v.category).sum ≤ 8) (dd : decode cc pc = .ok (.invokestatic index, 3))
    (kk : mm_cpc n0 n1 sp dp n → mm_V E w (pc + 3) ls st K (mm_cpA P r0 a0 r1 a1 sp.toNatClampNeg dp.toNatClampNeg n.toNatClampNeg) nx sl f) : mm_V E w pc ls (.int n :: .int dp :: .ref adr1 :: .int sp :: .ref adr0 :: st) K P nx sl (mm_gd (mm_cpc n0 n1 sp dp n) (mm_gd (mm_fit P r0 a0 sp.toNatClampNeg n.toNatClampNeg) f)) := by
  subst ha0
  subst ha1
  refine r_gd fun hc => r_gd fun hfit => ?_
  intro out ho H locs la hI
  have kk := kk hc
  obtain ⟨h1, h2, h3, h4, h5⟩ := hc
  obtain ⟨hls, hW, hsz, hn1, hs1, hS, hc1, hc2⟩ := hI
  have hcell0 := mm_cell_arr (cA := (eF E).1) (P := P) hr0
  have hcell1 := mm_cell_arr (cA := (eF E).1) (P := P) hr1
  have hc0 : H[a0 + o0]? = some (vp_cell ((eF E).1 1) (n0, .inl (gA P r0 a0))) := hW.at hcell0 (mm_xt_ro hro0)
  have hc1' : H[a1 + o1]? = some (vp_cell ((eF E).1 1) (n1, .inl (gA P r1 a1))) := hW.at hcell1 (mm_xt_ro hro)
  intro T hT X
  obtain ⟨-, k0, hk0, cm0, hkk0⟩ := (C.k.2 1 _ rfl).1 n0 (fun j => .int (gA P r0 a0 j))
  obtain ⟨-, k1, hk1, cm1, hkk1⟩ := (C.k.2 1 _ rfl).1 n1 (fun j => .int (gA P r1 a1 j))
  obtain ⟨vm', X', step⟩ := X.arraycopy C.x C.ow (C.ts _ hl) (C.ts _ h8) (C.ts _ h9) (C.ts _ h10) (src := a0 + o0) (dst := a1 + o1) (cs := vp_cell ((eF E).1 1) (n0, .inl (gA P r0 a0))) (cd := vp_cell ((eF E).1 1) (n1, .inl (gA P r1 a1))) (srcPos := sp) (destPos := dp) (n := n) (by rw [hT]; exact hc0) (by rw [hT]; exact hc1')
    (fun _ h => by cases h) (fun _ h => by cases h) (fun h => by cases h) (fun h => by cases h) hk0 hk1 hkk0 hkk1 rfl h1 h2 h3
    (by rw [mm_nn sp h1, mm_nn n h3]; show ¬ _ > ((arrV _ n0 (fun j => .int (gA P r0 a0 j))).slots.size : Int); rw [arrV_size]; omega)
    (by rw [mm_nn dp h2, mm_nn n h3]; show ¬ _ > ((arrV _ n1 (fun j => .int (gA P r1 a1 j))).slots.size : Int); rw [arrV_size]; omega)
    (fun vm₁ _ i hi => by
      have e : (vp_cell ((eF E).1 1) (n0, .inl (gA P r0 a0))).slots.getD (sp.toNatClampNeg + i) .null = .int (gA P r0 a0 (sp.toNatClampNeg + i)) := by
        show (arrV _ n0 (fun j => .int (gA P r0 a0 j))).slots.getD _ _ = _
        rw [Array.getD_eq_getD_getElem?, arrV_read _ _ (by omega)]
        rfl
      refine ⟨?_, ?_⟩
      · rw [e]
        exact hfit i hi
      · rw [e]
        exact trivial)
    (g := F0 (eM E) pc la (.int n :: .int dp :: .ref (a1 + o1) :: .int sp :: .ref (a0 + o0) :: st)) rfl hls.1 (rest := st) rfl (by rw [C.b]; exact dd) (by rw [C.fr]; exact hfr) (by show 2 * 0 + _ + _ ≤ _; rw [C.lc]; have hww : nativeFrameWords "java/lang/System" "arraycopy" 5 ≤ 20 := (by decide); omega)
  have e1 : copied (vp_cell ((eF E).1 1) (n0, .inl (gA P r0 a0))) (vp_cell ((eF E).1 1) (n1, .inl (gA P r1 a1))) sp dp n = vp_cell ((eF E).1 1) (n1, .inl (va_cpy (gA P r0 a0) (gA P r1 a1) sp.toNatClampNeg dp.toNatClampNeg n.toNatClampNeg)) := va_copied (fun z => .int z) _ _ _ _ h4
  rw [e1] at X' step
  have hl1 : a1 + o1 < H.size := (Array.getElem?_eq_some_iff.mp hc1').1
  have hheap : ((T.setVm vm').setCell (a1 + o1) (vp_cell ((eF E).1 1) (n1, .inl (va_cpy (gA P r0 a0) (gA P r1 a1) sp.toNatClampNeg dp.toNatClampNeg n.toNatClampNeg)))).heap = H.setIfInBounds (a1 + o1) (vp_cell ((eF E).1 1) (n1, .inl (va_cpy (gA P r0 a0) (gA P r1 a1) sp.toNatClampNeg dp.toNatClampNeg n.toNatClampNeg))) := by rw [← hT]; rfl
  have oq : ∀ q : Nat, q ≠ a1 + o1 → (H.setIfInBounds (a1 + o1) (vp_cell ((eF E).1 1) (n1, .inl (va_cpy (gA P r0 a0) (gA P r1 a1) sp.toNatClampNeg dp.toNatClampNeg n.toNatClampNeg))))[q]? = H[q]? := fun q hq => by simp [Array.getElem?_setIfInBounds, Ne.symm hq]
  have hoth : ∀ y z, (y ≠ r1 ∨ z ≠ a1) → gA (mm_cpA P r0 a0 r1 a1 sp.toNatClampNeg dp.toNatClampNeg n.toNatClampNeg) y z = gA P y z := by
    intro y z hyz
    funext q
    show (if _ ∧ _ then _ else _) = _
    rw [if_neg (by omega)]
    rfl
  have hself : gA (mm_cpA P r0 a0 r1 a1 sp.toNatClampNeg dp.toNatClampNeg n.toNatClampNeg) r1 a1 = va_cpy (gA P r0 a0) (gA P r1 a1) sp.toNatClampNeg dp.toNatClampNeg n.toNatClampNeg := by
    funext q
    show (if _ ∧ _ then _ else _) = _
    rw [if_pos ⟨rfl, rfl⟩]
  have hwr : eA E (a1 + o1) := hW.wr hcell1 hro
  have hW1 := hW.put (P' := mm_cpA P r0 a0 r1 a1 sp.toNatClampNeg dp.toNatClampNeg n.toNatClampNeg) (H' := H.setIfInBounds (a1 + o1) (vp_cell ((eF E).1 1) (n1, .inl (va_cpy (gA P r0 a0) (gA P r1 a1) sp.toNatClampNeg dp.toNatClampNeg n.toNatClampNeg)))) (fun _ _ => rfl) hcell1 (mm_cell_arr hr1) (mm_cell_ast hr1 rfl rfl rfl hoth (fun _ _ _ => rfl) (fun _ _ _ => rfl)) (by
    show (H.setIfInBounds _ _)[a1 + o1]? = some (vp_cell ((eF E).1 1) (n1, .inl (gA _ r1 a1)))
    rw [hself]
    simp [Array.getElem?_setIfInBounds, hl1]) oq (mm_xt_ro hro)
  obtain ⟨t, b1, b2⟩ := kk out ho _ _ la ⟨hls, hW1, by simp [hsz], hn1, hs1, ⟨by simp; exact hS.1, fun q g1 g2 => by
      rw [oq q (fun e => g2 (by rw [e]; exact hwr))]
      exact hS.2.1 q g1 g2, fun q hq => by
      rcases List.mem_append.mp hq with h | h
      · exact hS.2.2 q h
      · obtain ⟨z, -, hz⟩ := List.mem_map.mp h
        rw [← hz]
        exact hwr⟩, hc1, hc2⟩ _ hheap X'
  exact ⟨t, step t b1, b2⟩
/-- the class object of an Object[], by getClass() and by a constant -/
theorem r_getC (C : mm_Cx E own cc nL ret FR LC) {index a : Nat} (hl : Cond.methodLink own index ⟨"java/lang/Object", "getClass", "()Ljava/lang/Class;"⟩ ∈ lw_all) (h1 : Cond.declares ⟨"java/lang/Object", "getClass", "()Ljava/lang/Class;"⟩ ∈ nw_all) (h2 : Cond.selects "[Ljava/lang/Object;" ⟨"java/lang/Object", "getClass", "()Ljava/lang/Class;"⟩ ⟨"java/lang/Object", "getClass", "()Ljava/lang/Class;"⟩ ∈ lw_all) (h3 : Cond.instanceMethod ⟨"java/lang/Object", "getClass", "()Ljava/lang/Class;"⟩ ∈ lw_all) (h4 : Cond.native ⟨"java/lang/Object", "getClass", "()Ljava/lang/Class;"⟩ ∈ lw_all) (hk : K.1 a = 68) (hfr : 1 ≤ FR) (hlc : 22 ≤ LC) (hw : (st.map fun v => v.category).sum ≤ 8) (dd : decode cc pc = .ok (.invokevirtual index, 3)) (kk : mm_V E w (pc + 3) ls (va_rf (gR P 5 0) :: st) K P nx sl f) : mm_V E w pc ls (.ref a :: st) K P nx sl f := by
  intro out ho H locs la hI
  have h := kk out ho H locs la hI
  obtain ⟨-, -, -, ⟨mi, g1, g2⟩, -⟩ := C.ao
  rw [hI.2.1.1 5 (by omega), g1] at h
  have hcell : H[a + 0]? = some (vp_cell ((eF E).1 4) (K.2 a, _)) := hI.2.1.at (mm_cell_arr (cA := (eF E).1) (P := P) (rg_sa (ek := 4) hk)) (mm_xt_lt (by rw [hk]; decide))
  refine va_getC C.x C.b hI.1.1.symm C.ow (C.ts _ hl) (va_Nw.use rfl (C.nw _ h1)) (C.ts _ h2) (C.ts _ h3) (C.ts _ h4) g2 ⟨_, hcell, rfl, va_nmO (C.k.2 4 _ rfl).2 rfl⟩ (by rw [C.fr]; exact hfr) (by rw [C.lc]; omega) dd h
theorem r_ldcM (C : mm_Cx E own cc nL ret FR LC) {index : Nat} (hl : Cond.classLink own index "[Ljava/lang/Object;" ∈ lw_all) (dd : decode cc pc = .ok (.ldc index, 2)) (kk : mm_V E w (pc + 2) ls (va_rf (gR P 5 0) :: st) K P nx sl f) : mm_V E w pc ls st K P nx sl f := by
  intro out ho H locs la hI
  have h := kk out ho H locs la hI
  obtain ⟨-, -, -, ⟨mi, g1, g2⟩, -⟩ := C.ao
  rw [hI.2.1.1 5 (by omega), g1] at h
  exact va_ldcM C.x C.b C.ow (C.ts _ hl) g2 dd h
/-- a constant String, by its number -/
theorem r_ldcS (C : mm_Cx E RX2 cc nL ret FR LC) {index i : Nat} {tx : String} {g : Nat → Option α} (hq : (i, index, tx) ∈ mm_strs) (hi : i < 11) (dd : decode cc pc = .ok (.ldc index, 2)) (kk : ∀ b, gR P (10 + i) 0 = some b → mm_V E w (pc + 2) ls (.ref b :: st) K P nx sl (g b)) : mm_V E w pc ls st K P nx sl (mm_bd (gR P (10 + i) 0) g) := by
  refine r_bd fun b hb => ?_
  intro out ho H locs la hI
  have h := kk b hb out ho H locs la hI
  obtain ⟨-, -, -, -, g0⟩ := C.ao
  obtain ⟨a, g1, g2⟩ := g0 _ hq
  have e := hI.2.1.1 (10 + i) (by omega)
  rw [hb, g1] at e
  cases e
  exact va_ldcS C.x C.b C.ow g2 dd h
theorem r_instS (C : mm_Cx E own cc nL ret FR LC) {index a : Nat} (hl : Cond.classLink own index "java/lang/String" ∈ lw_all) (hk : mm_isS (K.1 a)) (d : decode cc pc = .ok (.instanceof index, 3)) (kk : mm_V E w (pc + 3) ls (.int 1 :: st) K P nx sl f) : mm_V E w pc ls (.ref a :: st) K P nx sl f := by
  intro out ho H locs la hI
  have key : ∃ l ci, mm_fd (K.1 a) = some l ∧ mm_cl[mm_ci (K.1 a)]? = some (RJ3, TJ3, ci) := by
    rcases hk with h | h <;> rw [h]
    · exact ⟨_, _, rfl, rfl⟩
    · exact ⟨_, _, rfl, rfl⟩
  obtain ⟨l, ci, hf, hc⟩ := key
  have hrv := va_recv C.k (mm_P1 (hI.2.1.at (mm_cell_obj (cA := (eF E).1) (P := P) rfl hf))) hc (q0 := 0) rfl
  exact va_instE C.x C.b C.ow (C.ts _ hl) hrv d (kk out ho H locs la hI)
end JDK
