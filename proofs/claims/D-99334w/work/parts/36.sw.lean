/-! a static method with a table -/
set_option maxRecDepth 100000
section TABS
variable {α : Type} {E : mm_E} {own : String} {cc : ByteArray} {nL : Nat} {ret : Option FieldType} {FR LC : Nat} {w : α → mm_O} {pc : Nat} {ls : List (Option Value)} {st st0 : List Value} {K : mm_K} {P : mm_P} {nx sl : Nat} {f : Option α}
def mm_CSW (own : String) (index : Nat) (y : MethodName) (bytes : ByteArray) (maxL : Nat) (rt : Option FieldType) (hh : List (Nat × Nat × Nat × Nat)) (n : Nat) : Prop :=
  GoodIn lw_all (va_wsS own index y (wsW_ y bytes maxL rt hh)) ∧ (y.cls ≠ "java/lang/invoke/MethodHandle" ∧ y.cls ≠ "java/lang/invoke/VarHandle" ∧ (parseMethodDescriptor y.desc).map (fun d => d.parameters.length) = some n)
theorem mm_callSW (C : mm_Cx E own cc nL ret FR LC) {index n maxL fr lc : Nat} {y : MethodName} {bytes : ByteArray} {rt : Option FieldType} {hh : List (Nat × Nat × Nat × Nat)} {As : List Value} {o : mm_O} (hM : mm_C (eL E) y (wsW_ y bytes maxL rt hh) fr lc As K P nx sl o) (cv : mm_CSW own index y bytes maxL rt hh n) (hlen : As.length = n) (hfr : fr + 1 ≤ FR) (hlc : 8 + (maxL + 11) + lc ≤ LC) (hst : st0 = As.reverse ++ st) (hw : (st.map fun v => v.category).sum ≤ 8) (hmono : ∀ out, f = some out → nx ≤ oN (w out) ∧ sl ≤ oS (w out) → oN o ≤ oN (w out) ∧ oS o ≤ oS (w out)) (dd : decode cc pc = .ok (.invokestatic index, 3))
    (kk : mm_V E w (pc + 3) ls ((oV o).toList ++ st) (oK o) (oP o) (oN o) (oS o) f) : mm_V E w pc ls st0 K P nx sl f := by
  intro out ho H locs la hI
  obtain ⟨hg, hd1, hd2, hd3⟩ := cv
  obtain ⟨h1, h2, hM⟩ := hM
  have hm := hmono out ho ⟨hI.2.2.2.1.2, hI.2.2.2.2.1.2⟩
  have hpre := mm_pre (argv := As) C hI
  have hI0 := hI
  obtain ⟨hls, hW, hsz, hn1, hs1, hS, hc1, hc2⟩ := hI0
  have ok : ∀ w ∈ va_wsS own index y (wsW_ y bytes maxL rt hh), w.before (eV E) (eS E) = true := fun w h => C.ts w (hg w h).1
  have hG : GoodIn lw_all (wsW_ y bytes maxL rt hh) := fun w h => hg w (by unfold va_wsS; exact List.mem_append_right _ h)
  have hK : Back (eL E) (eR E) (eP E) (eE E) (eB E) (eS E) (eV E) y 3 8 (PreOf (eR E) (oN o - nx) (oS o - sl) _) (PostOf _ (oN o - nx) (oS o - sl) (eA E)) := va_backW (hh := hh) (bytes := bytes) (maxL := maxL) (ret := rt) (hM (eD E) (eF E) (eA E)) mm_blind rfl rfl (by rw [C.fr]; exact hfr) (by rw [C.lc]; exact hlc) (pay_in C.ts hG) List.mem_cons_self (fun a' U hW => word_at hW (Or.inl (by first | rfl | simp [Cond.onTables, Cond.keeps, Cond.steady])) (ok (Cond.initialized y.cls) (by simp [va_wsS])))
  refine mm_after (st := st) (a := As.toArray) C ?_ hI h1 h2 hm.1 hm.2 ho kk
  intro T hT X
  have hlink := ok (Cond.methodLink own index y) (by simp [va_wsS])
  have hstat := ok (Cond.static y) (by simp [va_wsS])
  have hinit := ok (Cond.initialized y.cls) (by simp [va_wsS])
  have hcode := ok (Cond.codeWith y bytes maxL rt hh) (by simp [va_wsS])
  obtain ⟨mk, methM, cM, hnamed, hmethM, -, -, -, -, -, -, hsigM⟩ := Cond.codeWith_spec hcode
  have hstatic : methM.isStatic = true := Cond.static_spec hnamed hmethM hstat
  obtain ⟨kP, hkP, -⟩ := className_of_methodNamed hnamed
  have hinitP : kP.init = .initialized := Cond.initialized_spec (findClass_of_methodNamed hnamed) hkP hinit
  have hlen2 : As.length = methM.sig.parameters.length := by
    rw [hsigM] at hd3
    rw [hlen]
    exact (Option.some.inj hd3).symm
  obtain ⟨vm₁, X₁, hstep₁⟩ := X.invokestatic C.x C.ow hlink hnamed hmethM hstatic hkP hinitP ⟨hd1, hd2⟩ (g := F0 (eM E) pc la st0) rfl (argsL := As) (rest := st) hlen2 hst (by rw [C.b]; exact dd)
  obtain ⟨v, ⟨U', l2, c2, s2⟩, X', ⟨g', mk', t, L, e1, e2, hq, g1, hL, g2, g3⟩, hsteps⟩ := hK (eM E) (eT E) (eC E) ⟨T.setVm vm₁, locs, nx - eN E, sl - eO E⟩ { F0 (eM E) pc la st0 with stack := st } (.invokestatic index) mk As.toArray X₁ rfl hls.1 (by rw [C.b]; exact dd) (lv_room hw) (X₁.named hnamed) ⟨by dsimp only [Pt.cells]; omega, by dsimp only [Pt.slots]; omega, hpre (T.setVm vm₁) hT X₁.warmed⟩
  dsimp only [Pt.U, Pt.locs, Pt.cells, Pt.slots] at X' e1 e2 g1 g2 g3 hsteps hq
  subst g1; subst g2; subst g3
  exact ⟨v, (T.setVm vm₁).calling g' mk' As.toArray, t, U', L, hT, X', hL, e1, e2, hq, fun target h => hstep₁ _ fun acts => by rw [doInvoke_state]; exact hsteps.trans h⟩
theorem r_acallSW (C : mm_Cx E own cc nL ret FR LC) {index n maxL fr lc : Nat} {y : MethodName} {bytes : ByteArray} {rt : Option FieldType} {hh : List (Nat × Nat × Nat × Nat)} {As : List Value} {v : Value} {K' : mm_K} {P' : mm_P} {nx' sl' : Nat} (hM : mm_C (eL E) y (wsW_ y bytes maxL rt hh) fr lc As K P nx sl (some v, K', P', nx', sl')) (cv : mm_CSW own index y bytes maxL rt hh n) (hlen : As.length = n) (hfr : fr + 1 ≤ FR) (hlc : 8 + (maxL + 11) + lc ≤ LC) (hst : st0 = As.reverse ++ st) (hw : (st.map fun v => v.category).sum ≤ 8) (dd : decode cc pc = .ok (.invokestatic index, 3))
    (kk : mm_V E w (pc + 3) ls (v :: st) K' P' nx' sl' f) : mm_V E w pc ls st0 K P nx sl (mm_mo w nx' sl' f) := mm_callSW C hM cv hlen hfr hlc hst hw (fun _ h _ => (mm_mo_some h).2) dd (r_mo kk)
end TABS
