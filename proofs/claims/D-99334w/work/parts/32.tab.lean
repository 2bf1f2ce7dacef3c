/-! METHODS WITH A TABLE: their start, the calls of them -/
set_option maxRecDepth 100000
def mm_tab (E : mm_E) (hd : Nat × Nat × Nat × Nat) : Prop := ∃ x : ExceptionTableEntry, (eC E).exceptionTable.toList = [x] ∧ (x.startPc, x.endPc, x.handlerPc, x.catchType) = hd
theorem mm_startW {l : Launch} {y : MethodName} {cc : ByteArray} {maxL fr lc : Nat} {ret : Option FieldType} {hd : Nat × Nat × Nat × Nat} {argv : List Value} {K : mm_K} {P : mm_P} {nx sl : Nat} {α : Type} {w : α → mm_O} {x : Option α} {out : α} {ls : List (Option Value)} (hx : x = some out) (hy : plainName y.cls = true) (hlen : (lg_sl argv).length ≤ maxL) (hls : mm_of 0 maxL (lv_args 0 argv) = ls) (hn : nx ≤ oN (w out)) (hs : sl ≤ oS (w out)) (hq : mm_thr (w out) = none)
    (body : ∀ E : mm_E, eL E = l → eN E = nx → eO E = sl → mm_tab E hd → mm_Cx E y.cls cc maxL ret fr lc → mm_V E w 0 ls [] K P nx sl x) : mm_C l y (wsW_ y cc maxL ret [hd]) fr lc argv K P nx sl (w out) := by
  refine ⟨hn, hs, fun D cA A0 => ?_⟩
  refine va_MetW (cc := cc) (maxL := maxL) (ret := ret) (hh := [hd]) hy rfl ?_
  intro p e s m args below meth c s₁ B hml hv
  obtain ⟨rfl, hsz, hW, hK, hA, hN, hZ, hO⟩ := hv
  have hts0 := atoms_spec (ws := wsW_ y cc maxL ret [hd]) B.pre
  have hts : ∀ w ∈ lw_all, w.before _ s = true := fun w h => hts0 w (List.mem_cons_of_mem _ h)
  have htab : ∃ x : ExceptionTableEntry, c.exceptionTable.toList = [x] ∧ (x.startPc, x.endPc, x.handlerPc, x.catchType) = hd := by
    obtain ⟨m9, meth9, c9, hn9, h1, h2, -, -, h6, -⟩ := Cond.codeWith_spec (hts0 _ List.mem_cons_self)
    cases Option.some.inj (hn9.symm.trans B.named)
    cases Option.some.inj (h1.symm.trans B.method)
    cases Option.some.inj (h2.symm.trans (Stand.of_body B).code)
    generalize c.exceptionTable.toList = tl at h6
    match tl, h6 with
    | [x], h6 => exact ⟨x, rfl, (List.cons.inj h6).1⟩
  have hown : s.vm.findClass y.cls = some m.cls := findClass_of_methodNamed B.named
  have hl := lv_entry argv (n := maxL) hlen
  rw [lg_entry_eq]
  generalize (lg_sl argv ++ List.replicate (maxL - (lg_sl argv).length) Slot.unset).toArray = la at hl ⊢
  have h0 := body (p, l, e, ({ frames := fr, cells := oN (w out) - nx, slots := oS (w out) - sl, locals := lc } : Room), s, m, argv.toArray, below, meth, c, D, cA, A0, nx, sl) rfl rfl rfl htab
    ⟨B.exec, B.bytes, hml, hown, hts, hK, fun q hq => hA q (by rw [← hsz]; exact hq), B.notSynchronized, rfl, rfl, hN, B.returns, hsz, hZ, hO⟩ out hx s.heap [] la
    ⟨⟨hl.1.trans hml.symm, hl.2.1, fun i v hi => by rw [← hls] at hi; have := mm_of_at _ _ _ hi; rw [Nat.zero_add] at this; exact hl.2.2 (i, v) this⟩, hW, hsz, ⟨Nat.le_refl _, hn⟩, ⟨Nat.le_refl _, hs⟩, va_S.rf, Nat.le_refl _, Nat.le_refl _⟩
  have e1 : nx - nx = 0 := Nat.sub_self _
  have e2 : sl - sl = 0 := Nat.sub_self _
  unfold mm_T at h0
  rw [mm_Q_n hq] at h0
  dsimp only [eP, eL, eE, eR, eS, eM, eV, eB, eT, eC, eN, eO] at h0
  rw [e1, e2] at h0
  exact h0
section TABR
variable {α : Type} {E : mm_E} {own : String} {cc : ByteArray} {nL : Nat} {ret : Option FieldType} {FR LC : Nat} {w : α → mm_O} {pc : Nat} {ls : List (Option Value)} {st st0 : List Value} {K : mm_K} {P : mm_P} {nx sl : Nat} {f : Option α}
/-- a call that throws, caught here: the table's row by its numbers -/
theorem r_catW (C : mm_Cx E own cc nL ret FR LC) {hd : Nat × Nat × Nat × Nat} (hT : mm_tab E hd) (hcov : hd.1 ≤ pc ∧ pc < hd.2.1) (h0 : hd.2.2.2 ≠ 0) {hp : Nat} (hhp : hd.2.2.1 = hp) {nm Cn : String} {TT : u_T} {NN kq : Nat} {lq : List mm_F} (hlink : Cond.classLink own hd.2.2.2 nm ∈ lw_all) (hcast : Cn = nm ∨ Cond.castable Cn nm ∈ nw_all) (hcn : mm_cl[mm_ci kq]? = some (Cn, TT, NN)) (hfq : mm_fd kq = some lq)
    {index n k maxL fr lc b q : Nat} {y : MethodName} {bytes : ByteArray} {rt : Option FieldType} {As : List Value} {o : mm_O} (hM : mm_CT (eL E) y (ws_ y bytes maxL rt) fr lc (.ref b :: As) K P nx sl o q) (hkq : (oK o).1 q = kq) (cv : mm_CV own index y bytes maxL rt n k) (hk : K.1 b = k) (hlen : As.length = n) (hfr : fr + 1 ≤ FR) (hlc : 8 + (maxL + 11) + lc ≤ LC) (hst : st0 = As.reverse ++ .ref b :: st) (hw : (st.map fun v => v.category).sum ≤ 8) (dd : decode cc pc = .ok (.invokevirtual index, 3))
    (kk : mm_V E w hp ls [.ref q] (oK o) (oP o) (oN o) (oS o) f) : mm_V E w pc ls st0 K P nx sl (mm_mo w (oN o) (oS o) f) := by
  obtain ⟨x, hx1, hx2⟩ := hT
  subst hx2
  exact r_catV C hx1 (by simp only [covers, Bool.and_eq_true, decide_eq_true_eq]; exact hcov) h0 hhp hlink hcast hcn hfq hM hkq cv hk hlen hfr hlc hst hw dd kk
def mm_CVW (own : String) (index : Nat) (y : MethodName) (bytes : ByteArray) (maxL : Nat) (rt : Option FieldType) (hh : List (Nat × Nat × Nat × Nat)) (n k : Nat) : Prop :=
  ∃ (Cn : String) (T : u_T) (N : Nat) (l : List mm_F), GoodIn lw_all (wsV own index Cn y (wsW_ y bytes maxL rt hh)) ∧ (y.cls = Cn ∧ y.cls ≠ "java/lang/invoke/MethodHandle" ∧ y.cls ≠ "java/lang/invoke/VarHandle" ∧ (parseMethodDescriptor y.desc).map (fun d => d.parameters.length) = some n) ∧ mm_cl[mm_ci k]? = some (Cn, T, N) ∧ mm_fd k = some l
theorem mm_callVW (C : mm_Cx E own cc nL ret FR LC) {index n k maxL fr lc b : Nat} {y : MethodName} {bytes : ByteArray} {rt : Option FieldType} {hh : List (Nat × Nat × Nat × Nat)} {As : List Value} {o : mm_O} (hM : mm_C (eL E) y (wsW_ y bytes maxL rt hh) fr lc (.ref b :: As) K P nx sl o) (cv : mm_CVW own index y bytes maxL rt hh n k) (hk : K.1 b = k) (hlen : As.length = n) (hfr : fr + 1 ≤ FR) (hlc : 8 + (maxL + 11) + lc ≤ LC) (hst : st0 = As.reverse ++ .ref b :: st) (hw : (st.map fun v => v.category).sum ≤ 8) (hmono : ∀ out, f = some out → nx ≤ oN (w out) ∧ sl ≤ oS (w out) → oN o ≤ oN (w out) ∧ oS o ≤ oS (w out)) (dd : decode cc pc = .ok (.invokevirtual index, 3))
    (kk : mm_V E w (pc + 3) ls ((oV o).toList ++ st) (oK o) (oP o) (oN o) (oS o) f) : mm_V E w pc ls st0 K P nx sl f := by
  intro out ho H locs la hI
  obtain ⟨Cn, TT, N, l, hg, hd, hc, hf⟩ := cv
  obtain ⟨h1, h2, hM⟩ := hM
  have hm := hmono out ho ⟨hI.2.2.2.1.2, hI.2.2.2.2.1.2⟩
  have hrv := va_recv C.k (mm_P1 (hI.2.1.at (mm_cell_obj (cA := (eF E).1) (P := P) hk hf))) hc (q0 := 0) rfl
  have hpre := mm_pre (argv := .ref b :: As) C hI
  have hI0 := hI
  obtain ⟨hls, hW, hsz, hn1, hs1, hS, hc1, hc2⟩ := hI0
  obtain ⟨hC, hd1, hd2, hd3⟩ := hd
  subst hC
  have ok : ∀ w ∈ wsV own index y.cls y (wsW_ y bytes maxL rt hh), w.before (eV E) (eS E) = true := fun w h => C.ts w (hg w h).1
  have hG : GoodIn lw_all (wsW_ y bytes maxL rt hh) := fun w h => hg w (by unfold wsV; exact List.mem_append_right _ h)
  have hK : Back (eL E) (eR E) (eP E) (eE E) (eB E) (eS E) (eV E) y 3 8 (PreOf (eR E) (oN o - nx) (oS o - sl) _) (PostOf _ (oN o - nx) (oS o - sl) (eA E)) := va_backW (hh := hh) (bytes := bytes) (maxL := maxL) (ret := rt) (hM (eD E) (eF E) (eA E)) mm_blind rfl rfl (by rw [C.fr]; exact hfr) (by rw [C.lc]; exact hlc) (pay_in C.ts hG) List.mem_cons_self (fun a' U hW => word_at hW (Or.inl (by first | rfl | simp [Cond.onTables, Cond.keeps, Cond.steady])) (ok (Cond.initialized y.cls) (by simp [wsV])))
  refine mm_after (st := st) (a := (Value.ref b :: As).toArray) C ?_ hI h1 h2 hm.1 hm.2 ho kk
  intro T hT X
  obtain ⟨cellB, hcB, hoB, hclB⟩ := hrv
  have hinst := ok (Cond.instanceMethod y) (by simp [wsV])
  have hsel := ok (Cond.selects y.cls y y) (by simp [wsV])
  have hlink := ok (Cond.methodLink own index y) (by simp [wsV])
  have hcode := ok (Cond.codeWith y bytes maxL rt hh) (by simp [wsV])
  obtain ⟨mk, methM, hnamed, hmethM, hstM, habM⟩ := Cond.instanceMethod_spec hinst
  obtain ⟨m8, methM', cM, hn8, hmethM', -, -, -, -, -, -, hsigM⟩ := Cond.codeWith_spec hcode
  cases Option.some.inj (hn8.symm.trans hnamed)
  cases hmethM.symm.trans hmethM'
  obtain ⟨c2, r2, m2, q1, q2, q3, q4, kP, hkP, hkPi⟩ := Cond.selects_spec hsel
  cases hclB.symm.trans q1
  cases (State.methodFound?_of_named hnamed ⟨hd1, hd2⟩).symm.trans q2
  cases hnamed.symm.trans q3
  have hselP : selectMethod (eE E).platform (eS E).vm cellB.cls mk = .method mk := by rw [Launch.admits_selectMethod X.admits]; exact q4
  have hlen2 : As.length = methM.sig.parameters.length := by
    rw [hsigM] at hd3
    rw [hlen]
    exact (Option.some.inj hd3).symm
  obtain ⟨vm₁, X₁, hstep₁⟩ := X.invokevirtual C.x C.ow hlink hnamed hmethM hstM hkP hkPi ⟨hd1, hd2⟩ (a := b) (cell := cellB) (show T.heap[b]? = some cellB by rw [hT]; exact hcB)
    (fun z h => by rw [h] at hoB; cases hoB) hselP hmethM habM hkP hkPi (g := F0 (eM E) pc la st0) rfl (argsL := As) (rest := st) hlen2 hst (by rw [C.b]; exact dd)
  obtain ⟨v, ⟨U', l2, c2, s2⟩, X', ⟨g', mk', t, L, e1, e2, hq, g1, hL, g2, g3⟩, hsteps⟩ := hK (eM E) (eT E) (eC E) ⟨T.setVm vm₁, locs, nx - eN E, sl - eO E⟩ { F0 (eM E) pc la st0 with stack := st } (.invokevirtual index) mk (Value.ref b :: As).toArray X₁ rfl hls.1 (by rw [C.b]; exact dd) (lv_room hw) (X₁.named hnamed) ⟨by dsimp only [Pt.cells]; omega, by dsimp only [Pt.slots]; omega, hpre (T.setVm vm₁) hT X₁.warmed⟩
  dsimp only [Pt.U, Pt.locs, Pt.cells, Pt.slots] at X' e1 e2 g1 g2 g3 hsteps hq
  subst g1; subst g2; subst g3
  exact ⟨v, (T.setVm vm₁).calling g' mk' (Value.ref b :: As).toArray, t, U', L, hT, X', hL, e1, e2, hq, fun target h => hstep₁ _ fun acts => by rw [doInvoke_state]; exact hsteps.trans h⟩
theorem r_acallVW (C : mm_Cx E own cc nL ret FR LC) {index n k maxL fr lc b : Nat} {y : MethodName} {bytes : ByteArray} {rt : Option FieldType} {hh : List (Nat × Nat × Nat × Nat)} {As : List Value} {v : Value} {K' : mm_K} {P' : mm_P} {nx' sl' : Nat} (hM : mm_C (eL E) y (wsW_ y bytes maxL rt hh) fr lc (.ref b :: As) K P nx sl (some v, K', P', nx', sl')) (cv : mm_CVW own index y bytes maxL rt hh n k) (hk : K.1 b = k) (hlen : As.length = n) (hfr : fr + 1 ≤ FR) (hlc : 8 + (maxL + 11) + lc ≤ LC) (hst : st0 = As.reverse ++ .ref b :: st) (hw : (st.map fun v => v.category).sum ≤ 8) (dd : decode cc pc = .ok (.invokevirtual index, 3))
    (kk : mm_V E w (pc + 3) ls (v :: st) K' P' nx' sl' f) : mm_V E w pc ls st0 K P nx sl (mm_mo w nx' sl' f) := mm_callVW C hM cv hk hlen hfr hlc hst hw (fun _ h _ => (mm_mo_some h).2) dd (r_mo kk)
end TABR
