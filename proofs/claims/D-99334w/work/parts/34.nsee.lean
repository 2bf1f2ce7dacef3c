/-! new NoSuchElementException() -/
set_option maxRecDepth 100000
def mm_nm : List String := ["java/lang/RuntimeException", "java/lang/Exception"]
def mm_ow (w : Cond) : Prop := vx_no w = true → w ∈ lw_all ∨ w ∈ nw_all
theorem mm_ow1 : ∀ w ∈ Bundle.throwableAtoms, mm_ow w := (List.forall_mem_cons.mpr ⟨fun _ => Or.inl q147, (List.forall_mem_cons.mpr ⟨fun _ => Or.inl q599, (List.forall_mem_cons.mpr ⟨fun _ => Or.inl q608, (List.forall_mem_cons.mpr ⟨fun _ => Or.inl q611, (List.forall_mem_cons.mpr ⟨fun _ => Or.inl q614, (List.forall_mem_cons.mpr ⟨fun _ => Or.inl q616, (List.forall_mem_cons.mpr ⟨fun _ => Or.inl q600, (List.forall_mem_cons.mpr ⟨fun _ => Or.inl q601, (List.forall_mem_cons.mpr ⟨fun _ => Or.inl q181, (List.forall_mem_cons.mpr ⟨fun _ => Or.inl q182, (List.forall_mem_cons.mpr ⟨fun _ => Or.inl q602, (List.forall_mem_cons.mpr ⟨fun _ => Or.inl q607, (List.forall_mem_cons.mpr ⟨fun _ => Or.inl q612, (List.forall_mem_cons.mpr ⟨fun _ => Or.inl q633, (List.forall_mem_cons.mpr ⟨fun _ => Or.inl q589, (List.forall_mem_cons.mpr ⟨fun _ => Or.inl q634, (List.forall_mem_cons.mpr ⟨fun _ => Or.inl q591, (List.forall_mem_cons.mpr ⟨fun _ => Or.inl q635, (List.forall_mem_cons.mpr ⟨fun _ => Or.inl q593, (List.forall_mem_cons.mpr ⟨fun _ => Or.inl q603, (List.forall_mem_cons.mpr ⟨fun h => absurd h (by decide), (List.forall_mem_cons.mpr ⟨fun _ => Or.inl q605, (List.forall_mem_cons.mpr ⟨fun h => absurd h (by decide), (List.forall_mem_cons.mpr ⟨fun _ => Or.inl q595, (fun _ h => absurd h List.not_mem_nil)⟩)⟩)⟩)⟩)⟩)⟩)⟩)⟩)⟩)⟩)⟩)⟩)⟩)⟩)⟩)⟩)⟩)⟩)⟩)⟩)⟩)⟩)⟩)⟩)
theorem mm_ow2 : ∀ w ∈ Bundle.passAtoms "java/util/NoSuchElementException" "java/lang/RuntimeException" 1 Bundle.five, mm_ow w := (List.forall_mem_cons.mpr ⟨fun _ => Or.inl q1590, (List.forall_mem_cons.mpr ⟨fun _ => Or.inl q1591, (List.forall_mem_cons.mpr ⟨fun _ => Or.inl q1592, (List.forall_mem_cons.mpr ⟨fun _ => Or.inl q1593, (List.forall_mem_cons.mpr ⟨fun _ => Or.inr (nw_in q580 rfl), (fun _ h => absurd h List.not_mem_nil)⟩)⟩)⟩)⟩)⟩)
theorem mm_ow3 : ∀ w ∈ Bundle.passAtoms "java/lang/RuntimeException" "java/lang/Exception" 1 Bundle.five, mm_ow w := (List.forall_mem_cons.mpr ⟨fun _ => Or.inl q1593, (List.forall_mem_cons.mpr ⟨fun _ => Or.inl q1594, (List.forall_mem_cons.mpr ⟨fun _ => Or.inl q1595, (List.forall_mem_cons.mpr ⟨fun _ => Or.inl q1596, (List.forall_mem_cons.mpr ⟨fun _ => Or.inr (nw_in q582 rfl), (fun _ h => absurd h List.not_mem_nil)⟩)⟩)⟩)⟩)⟩)
theorem mm_ow4 : ∀ w ∈ Bundle.passAtoms "java/lang/Exception" "java/lang/Throwable" 1 Bundle.five, mm_ow w := (List.forall_mem_cons.mpr ⟨fun _ => Or.inl q1596, (List.forall_mem_cons.mpr ⟨fun _ => Or.inl q1597, (List.forall_mem_cons.mpr ⟨fun _ => Or.inl q1598, (List.forall_mem_cons.mpr ⟨fun _ => Or.inl q600, (List.forall_mem_cons.mpr ⟨fun _ => Or.inr (nw_in q584 rfl), (fun _ h => absurd h List.not_mem_nil)⟩)⟩)⟩)⟩)⟩)
theorem mm_ow5 : ∀ w ∈ vx_at0 "PegLaws" 12 "java/util/NoSuchElementException" mm_nm, w ∈ lw_all ∨ w ∈ nw_all := by
  intro w hw
  obtain ⟨hw, hn⟩ := List.mem_filter.mp hw
  have key : ∀ w ∈ Bundle.ownAtoms0 "PegLaws" 12 "java/util/NoSuchElementException" mm_nm, mm_ow w :=
    List.forall_mem_append.mpr ⟨List.forall_mem_append.mpr ⟨mm_ow1, List.forall_mem_append.mpr ⟨mm_ow2, List.forall_mem_append.mpr ⟨mm_ow3, mm_ow4⟩⟩⟩, (List.forall_mem_cons.mpr ⟨fun _ => Or.inl q1589, (List.forall_mem_cons.mpr ⟨fun _ => Or.inl q1581, (List.forall_mem_cons.mpr ⟨fun _ => Or.inr (nw_in q1582 rfl), (List.forall_mem_cons.mpr ⟨fun _ => Or.inl q1583, (List.forall_mem_cons.mpr ⟨fun _ => Or.inl q610, (List.forall_mem_cons.mpr ⟨fun _ => Or.inl q1584, (List.forall_mem_cons.mpr ⟨fun _ => Or.inl q1585, (List.forall_mem_cons.mpr ⟨fun _ => Or.inl q1586, (List.forall_mem_cons.mpr ⟨fun _ => Or.inl q1587, (List.forall_mem_cons.mpr ⟨fun h => absurd h (by decide), (List.forall_mem_cons.mpr ⟨fun h => absurd h (by decide), (List.forall_mem_cons.mpr ⟨fun _ => Or.inl q631, (List.forall_mem_cons.mpr ⟨fun _ => Or.inl q597, (List.forall_mem_cons.mpr ⟨fun _ => Or.inl q1588, (fun _ h => absurd h List.not_mem_nil)⟩)⟩)⟩)⟩)⟩)⟩)⟩)⟩)⟩)⟩)⟩)⟩)⟩)⟩)⟩
  exact key w hw hn
section NSEE
variable {α : Type} {E : mm_E} {cc : ByteArray} {nL : Nat} {ret : Option FieldType} {FR LC : Nat} {w : α → mm_O} {pc : Nat} {ls : List (Option Value)} {st : List Value} {K : mm_K} {P : mm_P} {nx sl : Nat} {f : Option α}
theorem mm_zq {n d : String} {C : String} {x : Option Nat} {A : Nat → Prop} {U : State} {H : Heap} (h : va_Z C n d (va_rf x) A U H) : va_Zq C n d A U H := by
  cases x with
  | none => exact Or.inl h
  | some t => exact Or.inr ⟨t, h⟩
set_option maxHeartbeats 4000000 in
theorem r_nsee (C : mm_Cx E RX1 cc nL ret FR LC) (hl : (eL E).stackTraces = false) (d0 : decode cc pc = .ok (.new 10, 3)) (d3 : decode cc (pc + 3) = .ok (.dup, 1)) (d4 : decode cc (pc + 4) = .ok (.invokespecial 12, 3)) (hfr : 5 < FR) (hlc : 100 ≤ LC) (hw : (st.map fun v => v.category).sum ≤ 8) (kk : mm_V E w (pc + 7) ls (.ref nx :: st) (mm_kn K nx 55 0) P (nx + 1) (sl + 6) f) : mm_V E w pc ls st K P nx sl (mm_mo w (nx + 1) (sl + 6) f) := by
  intro out ho H locs la hI
  obtain ⟨ho1, hm1, hm2⟩ := mm_mo_some ho
  obtain ⟨hls, hW, hsz, hn1, hs1, hS, hc1, hc2⟩ := hI
  intro T hT X
  subst hT
  have hexec := C.x
  have htr : (eE E).platform.stackTraces = false := (show (eE E).platform.stackTraces = (eL E).stackTraces by rw [X.admits.platform]).trans hl
  have hRc : nx - eN E + 1 ≤ (eR E).cells := by omega
  have hRs : sl - eO E + 6 ≤ (eR E).slots := by omega
  have Y := vx_rebase X (R' := { frames := (eR E).frames, locals := (eR E).locals, cells := 1, slots := 6 }) (Nat.le_refl _) (Nat.le_refl _) hRc hRs
  obtain ⟨s', hA'⟩ : ∃ z, z = (T.setVm (eS E).vm).setFrames (.invoking (eM E) (eV E) :: eB E) := ⟨_, rfl⟩
  rw [← hA'] at Y
  have hvm : s'.vm = (eS E).vm := by rw [hA']; rfl
  have hhp : s'.heap = T.heap := by rw [hA']; rfl
  have hW0 : (eS E).WarmedH s'.vm := by rw [hvm]; exact State.WarmedH.refl _
  have hat : ∀ w ∈ vx_at0 "PegLaws" 12 "java/util/NoSuchElementException" mm_nm, w.before (eV E) (eS E) = true := fun w hw => (mm_ow5 w hw).elim (C.ts w) (fun h => va_Nw.use (nw_ot (List.mem_filter.mp h).2) (C.nw w h))
  have hgood : ∀ w ∈ vx_at0 "PegLaws" 12 "java/util/NoSuchElementException" mm_nm, vx_ot w = true := by decide +kernel
  have hat' : ∀ w ∈ vx_at0 "PegLaws" 12 "java/util/NoSuchElementException" mm_nm, w.before (eV E) s' = true := fun w hw => vx_ot_at hW0 hvm.symm (hgood w hw) (hat w hw)
  have hk' : (Cond.classLink "PegLaws" 10 "java/util/NoSuchElementException").before (eV E) s' = true := vx_ot_at hW0 hvm.symm (by decide) (C.ts _ q1580)
  have hini' : (Cond.initialized "java/util/NoSuchElementException").before (eV E) s' = true := vx_ot_at hW0 hvm.symm (by decide) (C.ts _ q173)
  have hU' : vx_Zq Bundle.tN "UNASSIGNED_STACK" Bundle.steD (eA E) s' s'.heap := by rw [hhp]; exact vx_Zq.moved hW0.alike (vx_Zq.kept ⟨mm_zq C.zs.2.2.1, C.zs.2.2.2.2.2.2.1⟩ hS.2.1)
  have hN' : vx_Zq Bundle.tN "SUPPRESSED_SENTINEL" Bundle.listD (eA E) s' s'.heap := by rw [hhp]; exact vx_Zq.moved hW0.alike (vx_Zq.kept ⟨mm_zq C.zs.2.2.2.1, C.zs.2.2.2.2.2.2.2⟩ hS.2.1)
  have h : ∀ w ∈ Bundle.ownAtoms0 "PegLaws" 12 "java/util/NoSuchElementException" mm_nm, w.before (eV E) s' = true := vx_own hat' (vx_isRefq hU'.1) (vx_isRefq hN'.1) hU'.2.word hN'.2.word
  have hown' : s'.vm.findClass "PegLaws" = some (eM E).cls := by rw [hvm]; exact C.ow
  have hins : (Cond.instantiable "java/util/NoSuchElementException" 6).before (eV E) s' = true := h _ (by simp [Bundle.ownAtoms0])
  obtain ⟨vm₁, cX, kX, hfX, hkX, -, -, X₁, st1⟩ := Y.newCold hexec (own := "PegLaws") (C := "java/util/NoSuchElementException") (index := 10) (n := 6) hown' hk' hins hini'
    (g := F0 (eM E) pc la st) rfl (by rw [C.b]; exact d0) (Nat.le_refl _) (Nat.le_refl _)
  generalize hT1 : (T.setVm vm₁).pushCell { cls := cX, slots := kX.instanceTypes.map defaultValue, vm := .none } = T1 at X₁ st1
  have hcat : (Value.ref T.heap.size).category = 1 := rfl
  have hcellA : T1.heap[T.heap.size]? = some (freshCell cX kX) := by rw [← hT1]; exact State.heap_pushCell_size _ _
  have d3' : decode (eC E).code (pc + 3) = .ok (.dup, 1) := by rw [C.b]; exact d3
  obtain ⟨V, ce, L, Z, hL, hlt, hcl9, hvm9, stp⟩ := vx_ctorMade0 X₁ hexec htr (own := "PegLaws") (cls := "java/util/NoSuchElementException") (names := mm_nm) (ic := 12) hown' (by decide +kernel) (by decide +kernel) h (fun x hx => nomatch hx) hfX hkX hcellA (by rw [hhp]; exact Nat.le_refl _)
    (g := { method := eM E, pc := pc + 4, locals := la, stack := .ref T.heap.size :: .ref T.heap.size :: st, locked := none }) rfl hls.1 (rest := st) rfl
    (by rw [C.b]; exact d4) (by show 2 + 3 < (eR E).frames; rw [C.fr]; exact hfr) (by show 2 * 0 + _ + _ ≤ (eR E).locals; rw [C.lc]; simp only [List.map_cons, List.sum_cons, hcat]; have : mm_nm.length = 2 := rfl; omega)
  have Z0 := Stand.forget (locs := []) Z (fun y hy => by rw [hL y hy, hhp]; exact Nat.le_refl _)
  obtain ⟨f1, f2⟩ := vx_frame Z0.same
  rw [hhp] at f1 f2
  have hcl : mm_cl[26]? = some ("java/util/NoSuchElementException", mm_T0, 0) := rfl
  have hcid : ce.cls = (eD E).1 26 := by
    rw [hcl9]
    have h1 := (C.k.1 26 _ hcl).2.1
    rw [hvm] at hfX
    exact Option.some.inj (hfX.symm.trans h1)
  have hh : (V.setCell T.heap.size ce).heap[T.heap.size]? = some ce := heapAt_setCell_self (s := V) ce hlt
  subst hA'
  have X5 := vx_back9 X Y Z0
  have X6 : Stand (eP E) (eL E) (eE E) (eR E) (eS E) (eM E) (eV E) (eB E) (eT E) (eC E) (V.setCell T.heap.size ce) locs (nx - eN E + 1) (sl - eO E + 6) := { X5 with same := X5.same.mono (by omega) (by omega) }
  have hsz1 : (V.setCell T.heap.size ce).heap.size = nx + 1 := by
    have g1 := X6.heapSize
    have g2 := (Array.getElem?_eq_some_iff.mp hh).1
    have g3 := C.sz
    omega
  have hold : ∀ b o, b ≠ T.heap.size → mm_cell (eF E).1 (mm_kn K T.heap.size 55 0) P b o = mm_cell (eF E).1 K P b o := fun b o hb => by
    have e1 : (mm_kn K T.heap.size 55 0).1 b = K.1 b := if_neg hb
    have e2 : (mm_kn K T.heap.size 55 0).2 b = K.2 b := if_neg hb
    unfold mm_cell
    rw [e1, e2]
  have hW1 := hW.newG (P' := P) (k := 55) (n := 0) (e := .inr (26, [])) (H' := (V.setCell T.heap.size ce).heap) hold (fun _ _ => rfl) (by unfold mm_cell; rw [if_pos rfl, mm_kn_1]; rfl) (fun o _ => rfl) ⟨_, hcl, ce, hh, hcid, hvm9, fun k hk => absurd hk (Nat.not_lt_zero k)⟩ (C.a _ hS.1) (fun q hq => f2 q hq (fun z hz => nomatch hz))
  rw [show mm_kn K T.heap.size 55 0 = mm_kn K nx 55 0 by rw [hsz]] at hW1
  have e3 : nx - eN E + 1 = nx + 1 - eN E := by omega
  have e4 : sl - eO E + 6 = sl + 6 - eO E := by omega
  rw [e3, e4] at X6
  obtain ⟨t, a1, b1⟩ := kk out ho1 (V.setCell T.heap.size ce).heap locs la ⟨hls, hW1, hsz1, ⟨by omega, hm1⟩, ⟨by omega, hm2⟩, ⟨Nat.le_trans hS.1 f1, fun q h1 h2 => (f2 q (Nat.lt_of_lt_of_le h1 hS.1) (fun z hz => nomatch hz)).trans (hS.2.1 q h1 h2), hS.2.2⟩, hc1, hc2⟩ _ rfl X6
  refine ⟨t, st1 _ ?_, b1⟩
  show Steps (eP E).tables (eE E) (eB E) (T1.setTop { method := eM E, pc := pc + 3, locals := la, stack := .ref T.heap.size :: st, locked := none }) _
  jvm_step X₁.here [X₁.here.top, hexec, d3', Value.category]
  rw [show F0 (eM E) (pc + 7) la (Value.ref nx :: st) = F0 (eM E) (pc + 7) la (Value.ref T.heap.size :: st) by rw [hsz]] at a1
  exact stp _ a1
end NSEE
