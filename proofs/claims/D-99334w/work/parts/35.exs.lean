/-! a static method that throws -/
set_option maxRecDepth 100000
section EXS
variable {α : Type} {E : mm_E} {own : String} {cc : ByteArray} {nL : Nat} {ret : Option FieldType} {FR LC : Nat} {w : α → mm_O} {pc : Nat} {ls : List (Option Value)} {st st0 : List Value} {K : mm_K} {P : mm_P} {nx sl : Nat} {f : Option α}
theorem r_thrS (C : mm_Cx E own cc nL ret FR LC) (hT : ∀ z ∈ (eC E).exceptionTable.toList, covers z pc = false) {index n maxL fr lc q : Nat} {y : MethodName} {bytes : ByteArray} {rt : Option FieldType} {As : List Value} {o : mm_O} (hM : mm_CT (eL E) y (ws_ y bytes maxL rt) fr lc As K P nx sl o q) (cv : mm_CS own index y bytes maxL rt n) (hlen : As.length = n) (hfr : fr + 1 ≤ FR) (hlc : 8 + (maxL + 11) + lc ≤ LC) (hst : st0 = As.reverse ++ st) (hw : (st.map fun v => v.category).sum ≤ 8) (dd : decode cc pc = .ok (.invokestatic index, 3))
    {out : α} (hwo : w out = o) (ho : o.1 = some (.retAddr q)) : mm_V E w pc ls st0 K P nx sl (some out) := by
  intro out' he H locs la hI
  cases he
  subst hwo
  generalize hoo : w out = o at hM ho hI ⊢
  obtain ⟨hg, hd⟩ := cv
  obtain ⟨h1, h2, hM⟩ := hM
  have cw := va_cwS (R := eR E) (rm := ({ frames := fr, cells := oN o - nx, slots := oS o - sl, locals := lc } : Room)) n C.ts hg rfl rfl rfl hd ⟨by rw [C.fr]; exact hfr, by rw [C.lc]; exact hlc⟩
  have hpre := mm_pre (argv := As) (w := fun _ : Unit => o) (out := ()) C hI
  obtain ⟨⟨hrc, hrs, hfr', hlo, hws, hcw, hcode, hini, hy, hlen', hl⟩, hstat⟩ := cw
  have hI0 := hI
  obtain ⟨hls, hW, hsz, hn1, hs1, hS, hc1, hc2⟩ := hI0
  intro T hTh X
  have hK := mm_BT (R := eR E) (p := eP E) (e := eE E) (below := eB E) (s := eS E) (args := eV E) (W9 := 8) (bytes := bytes) (maxL := maxL) (ret := rt) (hM (eD E) (eF E) (eA E)) mm_blind hrc hrs hfr' hlo hws hcw (fun a' U hW => word_at hW (Or.inl (by first | rfl | simp [Cond.onTables, Cond.keeps, Cond.steady])) hini)
  obtain ⟨mk, hnamed⟩ := Cond.code_named hcode
  obtain ⟨methM, cM, hmethM, -, -, -, -, -, -, hsigM⟩ := Cond.code_spec hnamed hcode
  obtain ⟨q', vm₁, ⟨U', l2, c2, s2⟩, hW₁, X', ⟨hq, st₀, t, L, g0, e1, e2, g3, g4, g5, g6, hL, g7, g8⟩, stp⟩ := X.staticThrows C.x C.ow hl hstat hini hnamed hmethM hsigM hy hK (g := F0 (eM E) pc la st0) rfl hls.1 (Steps.refl _) (argsL := As) (rest := st) (fun sig h => hlen.trans (hlen' sig h)) hst (lv_room hw) (by rw [C.b]; exact dd)
    (fun vm₁ hW₁ => ⟨by dsimp only [Pt.cells]; omega, by dsimp only [Pt.slots]; omega, hpre (T.setVm vm₁) hTh hW₁⟩)
  subst hq
  dsimp only [Pt.U, Pt.locs, Pt.cells, Pt.slots] at X' e1 e2 g0 g6 g7 g8 stp
  subst g6; subst g7; subst g8
  have e3 : nx - eN E + (oN o - nx) = oN o - eN E := by omega
  have e4 : sl - eO E + (oS o - sl) = oS o - eO E := by omega
  rw [e3, e4] at X'
  obtain ⟨hz, hk9⟩ := g5
  have g0' : st₀.heap = H := g0.trans hTh
  rw [g0'] at hz hk9
  obtain ⟨t2, a1, b1⟩ := mm_outX (st := st) (K := oK o) (P := oP o) (nx := oN o) (sl := oS o) C hT (o := o) (by rw [← ho]) (H := U'.heap) (locs := locs ++ L) (la := la) (ls := ls) ⟨hls, by rw [e1]; exact g3, by rw [e1]; exact g4, ⟨Nat.le_trans hn1.1 h1, Nat.le_refl _⟩, ⟨Nat.le_trans hs1.1 h2, Nat.le_refl _⟩,
    ⟨Nat.le_trans hS.1 (by rw [e1]; exact hz), fun z z1 z2 => by rw [e1, hk9 z (Nat.lt_of_lt_of_le z1 hS.1) z2]; exact hS.2.1 z z1 z2, fun z hzz => by
      rcases List.mem_append.mp hzz with h | h
      · exact hS.2.2 z h
      · exact hL z h⟩, hc1, hc2⟩ U' rfl X'
  exact ⟨t2, stp.trans a1, b1⟩
end EXS
