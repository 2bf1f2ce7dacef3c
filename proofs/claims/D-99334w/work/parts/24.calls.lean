/-! calls of inherited, overriding, abstract, nest mates' methods and of constructors; references; what goes on with new cells -/
set_option maxRecDepth 100000
abbrev mm_S : Type := mm_K × mm_P × Nat × Nat
abbrev mm_waI : Int32 × mm_S → mm_O := fun r => (some (.int r.1), r.2.1, r.2.2.1, r.2.2.2.1, r.2.2.2.2)
abbrev mm_waL : Int64 × mm_S → mm_O := fun r => (some (.long r.1), r.2.1, r.2.2.1, r.2.2.2.1, r.2.2.2.2)
abbrev mm_waR : Nat × mm_S → mm_O := fun r => (some (.ref r.1), r.2.1, r.2.2.1, r.2.2.2.1, r.2.2.2.2)
abbrev mm_waV : mm_S → mm_O := fun r => (none, r.1, r.2.1, r.2.2.1, r.2.2.2)
/-- the rest, that must end with no fewer cells and slots than are made here -/
def mm_mo {α : Type} (w : α → mm_O) (n s : Nat) (x : Option α) : Option α := match x with
  | none => none
  | some o => if n ≤ oN (w o) ∧ s ≤ oS (w o) then some o else none
theorem mm_mo_some {α : Type} {w : α → mm_O} {n s : Nat} {x : Option α} {o : α} (h : mm_mo w n s x = some o) : x = some o ∧ n ≤ oN (w o) ∧ s ≤ oS (w o) := by
  unfold mm_mo at h
  cases x with
  | none => cases h
  | some y =>
    dsimp only at h
    split at h
    · next hc => cases h; exact ⟨rfl, hc⟩
    · cases h
abbrev mm_isC (k : Nat) : Prop := 7 ≤ k ∧ k ≤ 10
theorem mm_isC_or {k : Nat} (h : mm_isC k) : k = 7 ∨ k = 8 ∨ k = 9 ∨ k = 10 := by
  obtain ⟨h1, h2⟩ := h
  omega
theorem mm_bsC {k : Nat} (h : mm_isC k) (j : Nat) : mm_bs k + j = 896 + j := by
  rcases mm_isC_or h with rfl | rfl | rfl | rfl <;> rfl
theorem mm_roC {k : Nat} (h : mm_isC k) : mm_ro k = false := by
  rcases mm_isC_or h with rfl | rfl | rfl | rfl <;> rfl
theorem mm_nrO (n : String) : ∀ x, narrow (.object n) (va_rf x) = va_rf x := by
  intro x; cases x <;> rfl
theorem mm_nrA (t : FieldType) : ∀ x, narrow (.array t) (va_rf x) = va_rf x := by
  intro x; cases x <;> rfl
theorem mm_ftO (n : String) : ∀ x, fits (.object n) (va_rf x) = true := by
  intro x; cases x <;> rfl
theorem mm_ftA (t : FieldType) : ∀ x, fits (.array t) (va_rf x) = true := by
  intro x; cases x <;> rfl
/-- a standalone array, of a kind that may be written -/
theorem rg_sa {K : mm_K} {a ek : Nat} (h : K.1 a = 64 + ek) (hek : ek < 7 := by decide) : mm_reg K (8192 + ek) a 0 ek (K.2 a) := by
  right
  refine ⟨rfl, rfl, ?_, ?_, rfl⟩
  · rw [h]
    match ek, hek with
    | 0, _ => rfl
    | 1, _ => rfl
    | 2, _ => rfl
    | 3, _ => rfl
    | 4, _ => rfl
    | 5, _ => rfl
    | 6, _ => rfl
  · rw [h]
    match ek, hek with
    | 0, _ => rfl
    | 1, _ => rfl
    | 2, _ => rfl
    | 3, _ => rfl
    | 4, _ => rfl
    | 5, _ => rfl
    | 6, _ => rfl
/-- .. or one that nobody writes -/
abbrev mm_isA (K : mm_K) (a ek : Nat) : Prop := K.1 a = 64 + ek ∨ K.1 a = 80 + ek
theorem rg_ra {K : mm_K} {a ek : Nat} (h : mm_isA K a ek) (hek : ek < 2 := by decide) : mm_reg K (8192 + ek) a 0 ek (K.2 a) := by
  rcases h with h | h
  · exact rg_sa h (by omega)
  · right
    refine ⟨rfl, rfl, ?_, ?_, rfl⟩
    · rw [h]
      match ek, hek with
      | 0, _ => rfl
      | 1, _ => rfl
    · rw [h]
      match ek, hek with
      | 0, _ => rfl
      | 1, _ => rfl
theorem mm_cat (x : Option Nat) : (va_rf x).category = 1 := by cases x <;> rfl
def mm_hd (o : String) (x : MethodName) (n : Nat) : Prop := o ≠ "java/lang/invoke/MethodHandle" ∧ o ≠ "java/lang/invoke/VarHandle" ∧ (parseMethodDescriptor x.desc).map (fun d => d.parameters.length) = some n
/-- a call that names x and runs y, on a receiver of the class code k -/
def mm_CU (own : String) (index : Nat) (x y : MethodName) (bytes : ByteArray) (maxL : Nat) (rt : Option FieldType) (n k : Nat) : Prop :=
  ∃ (Cn owner : String) (T : u_T) (N : Nat) (l : List mm_F), mm_hd owner x n ∧ mm_cl[mm_ci k]? = some (Cn, T, N) ∧ mm_fd k = some l ∧
    ((GoodIn lw_all (va_wsU own index Cn owner x y (ws_ y bytes maxL rt)) ∧ (y = ⟨owner, x.name, x.desc⟩ ∨ Cond.declares ⟨owner, x.name, x.desc⟩ ∈ nw_all)) ∨
     (GoodIn lw_all (va_wsO own index Cn owner x y (ws_ y bytes maxL rt)) ∧ ∃ b0 m0 r0, Cond.code ⟨owner, x.name, x.desc⟩ b0 m0 r0 ∈ lw_all))
/-- a nest mate's private method -/
def mm_CN (own : String) (index : Nat) (y : MethodName) (bytes : ByteArray) (maxL : Nat) (rt : Option FieldType) (n : Nat) : Prop :=
  (∃ host, Cond.methodLinkNest own index y host ∈ nw_all) ∧ Cond.code y bytes maxL rt ∈ lw_all ∧ Cond.initialized y.cls ∈ lw_all ∧ mm_hd y.cls y n
def mm_CVN (own : String) (index : Nat) (y : MethodName) (bytes : ByteArray) (maxL : Nat) (rt : Option FieldType) (n k : Nat) : Prop :=
  mm_CN own index y bytes maxL rt n ∧ Cond.instanceMethod y ∈ lw_all ∧ ∃ (Cn : String) (T : u_T) (N : Nat) (l : List mm_F), Cond.selects Cn y y ∈ lw_all ∧ mm_cl[mm_ci k]? = some (Cn, T, N) ∧ mm_fd k = some l
def mm_CSN (own : String) (index : Nat) (y : MethodName) (bytes : ByteArray) (maxL : Nat) (rt : Option FieldType) (n : Nat) : Prop :=
  mm_CN own index y bytes maxL rt n ∧ Cond.static y ∈ lw_all
/-- a constructor -/
def mm_CI (own : String) (index : Nat) (y : MethodName) (bytes : ByteArray) (maxL : Nat) (n : Nat) : Prop :=
  Cond.code y bytes maxL none ∈ lw_all ∧ Cond.initialized y.cls ∈ lw_all ∧ Cond.methodLink own index y ∈ lw_all ∧ Cond.instanceMethod y ∈ lw_all ∧ y.name = "<init>" ∧ mm_hd y.cls y n
def mm_CIN (own : String) (index : Nat) (y : MethodName) (bytes : ByteArray) (maxL : Nat) (n : Nat) : Prop :=
  mm_CN own index y bytes maxL none n ∧ Cond.instanceMethod y ∈ lw_all ∧ y.name = "<init>"
section CALLS
variable {α : Type} {E : mm_E} {own : String} {cc : ByteArray} {nL : Nat} {ret : Option FieldType} {FR LC : Nat} {w : α → mm_O} {pc : Nat} {ls : List (Option Value)} {st st0 : List Value} {K : mm_K} {P : mm_P} {nx sl : Nat} {f : Option α}
theorem r_mo {n s : Nat} {g : Option α} (k : mm_V E w pc ls st K P nx sl g) : mm_V E w pc ls st K P nx sl (mm_mo w n s g) := fun out ho => k out (mm_mo_some ho).1

theorem mm_callU (C : mm_Cx E own cc nL ret FR LC) {index n maxL fr lc : Nat} {k b : Nat} {x : MethodName} {y : MethodName} {bytes : ByteArray} {rt : Option FieldType} {As : List Value} {o : mm_O} (hM : mm_C (eL E) y (ws_ y bytes maxL rt) fr lc (.ref b :: As) K P nx sl o) (cv : mm_CU own index x y bytes maxL rt n k) (hk : K.1 b = k) (hlen : As.length = n) (hfr : fr + 1 ≤ FR) (hlc : 8 + (maxL + 11) + lc ≤ LC) (hst : st0 = As.reverse ++ .ref b :: st) (hw : (st.map fun v => v.category).sum ≤ 8) (hmono : ∀ out, f = some out → nx ≤ oN (w out) ∧ sl ≤ oS (w out) → oN o ≤ oN (w out) ∧ oS o ≤ oS (w out)) (dd : decode cc pc = .ok (.invokevirtual index, 3))
    (kk : mm_V E w (pc + 3) ls ((oV o).toList ++ st) (oK o) (oP o) (oN o) (oS o) f) : mm_V E w pc ls st0 K P nx sl f := by
  intro out ho H locs la hI
  obtain ⟨Cn, owner, T, N, l, hd, hc, hf, hg⟩ := cv
  obtain ⟨h1, h2, hM⟩ := hM
  have hm := hmono out ho ⟨hI.2.2.2.1.2, hI.2.2.2.2.1.2⟩
  have hrv := va_recv C.k (mm_P1 (hI.2.1.at (mm_cell_obj (cA := (eF E).1) (P := P) hk hf))) hc (q0 := 0) rfl
  have hR : ({ frames := fr, cells := oN o - nx, slots := oS o - sl, locals := lc } : Room).frames + 1 ≤ (eR E).frames ∧ 8 + (maxL + 11) + ({ frames := fr, cells := oN o - nx, slots := oS o - sl, locals := lc } : Room).locals ≤ (eR E).locals := ⟨by rw [C.fr]; exact hfr, by rw [C.lc]; exact hlc⟩
  have cw : va_CU (eR E) (eS E) (eV E) own Cn owner index x y bytes maxL rt (ws_ y bytes maxL rt) { frames := fr, cells := oN o - nx, slots := oS o - sl, locals := lc } (oN o - nx) (oS o - sl) n := by
    rcases hg with ⟨hg, hy | hy⟩ | ⟨hg, b0, m0, r0, h0⟩
    · exact va_cwU n C.ts hg rfl rfl rfl hy hd hR
    · exact va_cwA n C.ts hg rfl rfl rfl (C.nw _ hy) hd hR
    · exact va_cwO n C.ts hg rfl rfl rfl h0 hd hR
  refine mm_after C (va_runU ⟨C.x, C.b, C.ml, C.ow, C.ts⟩ (hM (eD E) (eF E) (eA E)) cw ⟨mm_blind, hrv, mm_pre C hI⟩ rfl hlen (hI.1.1.trans C.ml) hst (lv_room hw) dd ?_) hI h1 h2 hm.1 hm.2 ho kk
  obtain ⟨hls, hW, hsz, hn1, hs1, hS, hc1, hc2⟩ := hI
  constructor <;> omega
theorem mm_callVN (C : mm_Cx E own cc nL ret FR LC) {index n maxL fr lc : Nat} {k b : Nat} {y : MethodName} {bytes : ByteArray} {rt : Option FieldType} {As : List Value} {o : mm_O} (hM : mm_C (eL E) y (ws_ y bytes maxL rt) fr lc (.ref b :: As) K P nx sl o) (cv : mm_CVN own index y bytes maxL rt n k) (hk : K.1 b = k) (hlen : As.length = n) (hfr : fr + 1 ≤ FR) (hlc : 8 + (maxL + 11) + lc ≤ LC) (hst : st0 = As.reverse ++ .ref b :: st) (hw : (st.map fun v => v.category).sum ≤ 8) (hmono : ∀ out, f = some out → nx ≤ oN (w out) ∧ sl ≤ oS (w out) → oN o ≤ oN (w out) ∧ oS o ≤ oS (w out)) (dd : decode cc pc = .ok (.invokevirtual index, 3))
    (kk : mm_V E w (pc + 3) ls ((oV o).toList ++ st) (oK o) (oP o) (oN o) (oS o) f) : mm_V E w pc ls st0 K P nx sl f := by
  intro out ho H locs la hI
  obtain ⟨⟨⟨host, hh⟩, hcd, hini, hd⟩, him, Cn, T, N, l, hsel, hc, hf⟩ := cv
  obtain ⟨h1, h2, hM⟩ := hM
  have hm := hmono out ho ⟨hI.2.2.2.1.2, hI.2.2.2.2.1.2⟩
  have cw := va_cnB (R := eR E) (rm := ({ frames := fr, cells := oN o - nx, slots := oS o - sl, locals := lc } : Room)) n C.ts (lw_meth hcd) rfl rfl rfl (C.nw _ hh) (C.ts _ hini) hd ⟨by rw [C.fr]; exact hfr, by rw [C.lc]; exact hlc⟩
  have hrv := va_recv C.k (mm_P1 (hI.2.1.at (mm_cell_obj (cA := (eF E).1) (P := P) hk hf))) hc (q0 := 0) rfl
  refine mm_after C (va_runVN ⟨C.x, C.b, C.ml, C.ow, C.ts⟩ (hM (eD E) (eF E) (eA E)) ⟨cw, C.ts _ him, C.ts _ hsel⟩ ⟨mm_blind, hrv, mm_pre C hI⟩ rfl hlen (hI.1.1.trans C.ml) hst (lv_room hw) dd ?_) hI h1 h2 hm.1 hm.2 ho kk
  obtain ⟨hls, hW, hsz, hn1, hs1, hS, hc1, hc2⟩ := hI
  constructor <;> omega
theorem mm_callSN (C : mm_Cx E own cc nL ret FR LC) {index n maxL fr lc : Nat} {y : MethodName} {bytes : ByteArray} {rt : Option FieldType} {As : List Value} {o : mm_O} (hM : mm_C (eL E) y (ws_ y bytes maxL rt) fr lc (As) K P nx sl o) (cv : mm_CSN own index y bytes maxL rt n) (hlen : As.length = n) (hfr : fr + 1 ≤ FR) (hlc : 8 + (maxL + 11) + lc ≤ LC) (hst : st0 = As.reverse ++ st) (hw : (st.map fun v => v.category).sum ≤ 8) (hmono : ∀ out, f = some out → nx ≤ oN (w out) ∧ sl ≤ oS (w out) → oN o ≤ oN (w out) ∧ oS o ≤ oS (w out)) (dd : decode cc pc = .ok (.invokestatic index, 3))
    (kk : mm_V E w (pc + 3) ls ((oV o).toList ++ st) (oK o) (oP o) (oN o) (oS o) f) : mm_V E w pc ls st0 K P nx sl f := by
  intro out ho H locs la hI
  obtain ⟨⟨⟨host, hh⟩, hcd, hini, hd⟩, hstt⟩ := cv
  obtain ⟨h1, h2, hM⟩ := hM
  have hm := hmono out ho ⟨hI.2.2.2.1.2, hI.2.2.2.2.1.2⟩
  have cw := va_cnB (R := eR E) (rm := ({ frames := fr, cells := oN o - nx, slots := oS o - sl, locals := lc } : Room)) n C.ts (lw_meth hcd) rfl rfl rfl (C.nw _ hh) (C.ts _ hini) hd ⟨by rw [C.fr]; exact hfr, by rw [C.lc]; exact hlc⟩
  refine mm_after C (va_runSN ⟨C.x, C.b, C.ml, C.ow, C.ts⟩ (hM (eD E) (eF E) (eA E)) ⟨cw, C.ts _ hstt, trivial⟩ ⟨mm_blind, mm_pre C hI⟩ rfl hlen (hI.1.1.trans C.ml) hst (lv_room hw) dd ?_) hI h1 h2 hm.1 hm.2 ho kk
  obtain ⟨hls, hW, hsz, hn1, hs1, hS, hc1, hc2⟩ := hI
  constructor <;> omega
theorem mm_callI (C : mm_Cx E own cc nL ret FR LC) {index n maxL fr lc : Nat} {b : Nat} {y : MethodName} {bytes : ByteArray} {As : List Value} {o : mm_O} (hM : mm_C (eL E) y (ws_ y bytes maxL none) fr lc (.ref b :: As) K P nx sl o) (cv : mm_CI own index y bytes maxL n) (hlen : As.length = n) (hfr : fr + 1 ≤ FR) (hlc : 8 + (maxL + 11) + lc ≤ LC) (hst : st0 = As.reverse ++ .ref b :: st) (hw : (st.map fun v => v.category).sum ≤ 8) (hmono : ∀ out, f = some out → nx ≤ oN (w out) ∧ sl ≤ oS (w out) → oN o ≤ oN (w out) ∧ oS o ≤ oS (w out)) (dd : decode cc pc = .ok (.invokespecial index, 3))
    (kk : mm_V E w (pc + 3) ls ((oV o).toList ++ st) (oK o) (oP o) (oN o) (oS o) f) : mm_V E w pc ls st0 K P nx sl f := by
  intro out ho H locs la hI
  obtain ⟨hcd, hini, hl, him, hnm, hd⟩ := cv
  obtain ⟨h1, h2, hM⟩ := hM
  have hm := hmono out ho ⟨hI.2.2.2.1.2, hI.2.2.2.2.1.2⟩
  refine mm_after C (va_runI ⟨C.x, C.b, C.ml, C.ow, C.ts⟩ (hM (eD E) (eF E) (eA E)) (cwI n C.ts (lw_meth hcd) rfl rfl rfl (C.ts _ hini) (C.ts _ hl) (C.ts _ him) hnm hd ⟨by rw [C.fr]; exact hfr, by rw [C.lc]; exact hlc⟩) ⟨mm_blind, mm_pre C hI⟩ rfl hlen (hI.1.1.trans C.ml) hst (lv_room hw) dd ?_) hI h1 h2 hm.1 hm.2 ho kk
  obtain ⟨hls, hW, hsz, hn1, hs1, hS, hc1, hc2⟩ := hI
  constructor <;> omega
theorem mm_callIN (C : mm_Cx E own cc nL ret FR LC) {index n maxL fr lc : Nat} {b : Nat} {y : MethodName} {bytes : ByteArray} {As : List Value} {o : mm_O} (hM : mm_C (eL E) y (ws_ y bytes maxL none) fr lc (.ref b :: As) K P nx sl o) (cv : mm_CIN own index y bytes maxL n) (hlen : As.length = n) (hfr : fr + 1 ≤ FR) (hlc : 8 + (maxL + 11) + lc ≤ LC) (hst : st0 = As.reverse ++ .ref b :: st) (hw : (st.map fun v => v.category).sum ≤ 8) (hmono : ∀ out, f = some out → nx ≤ oN (w out) ∧ sl ≤ oS (w out) → oN o ≤ oN (w out) ∧ oS o ≤ oS (w out)) (dd : decode cc pc = .ok (.invokespecial index, 3))
    (kk : mm_V E w (pc + 3) ls ((oV o).toList ++ st) (oK o) (oP o) (oN o) (oS o) f) : mm_V E w pc ls st0 K P nx sl f := by
  intro out ho H locs la hI
  obtain ⟨⟨⟨host, hh⟩, hcd, hini, hd⟩, him, hnm⟩ := cv
  obtain ⟨h1, h2, hM⟩ := hM
  have hm := hmono out ho ⟨hI.2.2.2.1.2, hI.2.2.2.2.1.2⟩
  have cw := va_cnB (R := eR E) (rm := ({ frames := fr, cells := oN o - nx, slots := oS o - sl, locals := lc } : Room)) n C.ts (lw_meth hcd) rfl rfl rfl (C.nw _ hh) (C.ts _ hini) hd ⟨by rw [C.fr]; exact hfr, by rw [C.lc]; exact hlc⟩
  refine mm_after C (va_runIN ⟨C.x, C.b, C.ml, C.ow, C.ts⟩ (hM (eD E) (eF E) (eA E)) ⟨cw, hnm, C.ts _ him⟩ ⟨mm_blind, mm_pre C hI⟩ rfl hlen (hI.1.1.trans C.ml) hst (lv_room hw) dd ?_) hI h1 h2 hm.1 hm.2 ho kk
  obtain ⟨hls, hW, hsz, hn1, hs1, hS, hc1, hc2⟩ := hI
  constructor <;> omega
theorem r_acallV (C : mm_Cx E own cc nL ret FR LC) {index n maxL fr lc : Nat} {k b : Nat} {y : MethodName} {bytes : ByteArray} {rt : Option FieldType} {As : List Value} {v : Value} {K' : mm_K} {P' : mm_P} {nx' sl' : Nat} (hM : mm_C (eL E) y (ws_ y bytes maxL rt) fr lc (.ref b :: As) K P nx sl (some v, K', P', nx', sl')) (cv : mm_CV own index y bytes maxL rt n k) (hk : K.1 b = k) (hlen : As.length = n) (hfr : fr + 1 ≤ FR) (hlc : 8 + (maxL + 11) + lc ≤ LC) (hst : st0 = As.reverse ++ .ref b :: st) (hw : (st.map fun v => v.category).sum ≤ 8) (dd : decode cc pc = .ok (.invokevirtual index, 3))
    (kk : mm_V E w (pc + 3) ls (v :: st) K' P' nx' sl' f) : mm_V E w pc ls st0 K P nx sl (mm_mo w nx' sl' f) := mm_callV C hM cv hk hlen hfr hlc hst hw (fun _ h _ => (mm_mo_some h).2) dd (r_mo kk)
theorem r_acallVv (C : mm_Cx E own cc nL ret FR LC) {index n maxL fr lc : Nat} {k b : Nat} {y : MethodName} {bytes : ByteArray} {rt : Option FieldType} {As : List Value} {K' : mm_K} {P' : mm_P} {nx' sl' : Nat} (hM : mm_C (eL E) y (ws_ y bytes maxL rt) fr lc (.ref b :: As) K P nx sl (none, K', P', nx', sl')) (cv : mm_CV own index y bytes maxL rt n k) (hk : K.1 b = k) (hlen : As.length = n) (hfr : fr + 1 ≤ FR) (hlc : 8 + (maxL + 11) + lc ≤ LC) (hst : st0 = As.reverse ++ .ref b :: st) (hw : (st.map fun v => v.category).sum ≤ 8) (dd : decode cc pc = .ok (.invokevirtual index, 3))
    (kk : mm_V E w (pc + 3) ls st K' P' nx' sl' f) : mm_V E w pc ls st0 K P nx sl (mm_mo w nx' sl' f) := mm_callV C hM cv hk hlen hfr hlc hst hw (fun _ h _ => (mm_mo_some h).2) dd (r_mo kk)
theorem r_acallS (C : mm_Cx E own cc nL ret FR LC) {index n maxL fr lc : Nat} {y : MethodName} {bytes : ByteArray} {rt : Option FieldType} {As : List Value} {v : Value} {K' : mm_K} {P' : mm_P} {nx' sl' : Nat} (hM : mm_C (eL E) y (ws_ y bytes maxL rt) fr lc (As) K P nx sl (some v, K', P', nx', sl')) (cv : mm_CS own index y bytes maxL rt n) (hlen : As.length = n) (hfr : fr + 1 ≤ FR) (hlc : 8 + (maxL + 11) + lc ≤ LC) (hst : st0 = As.reverse ++ st) (hw : (st.map fun v => v.category).sum ≤ 8) (dd : decode cc pc = .ok (.invokestatic index, 3))
    (kk : mm_V E w (pc + 3) ls (v :: st) K' P' nx' sl' f) : mm_V E w pc ls st0 K P nx sl (mm_mo w nx' sl' f) := mm_callS C hM cv hlen hfr hlc hst hw (fun _ h _ => (mm_mo_some h).2) dd (r_mo kk)
theorem r_acallSv (C : mm_Cx E own cc nL ret FR LC) {index n maxL fr lc : Nat} {y : MethodName} {bytes : ByteArray} {rt : Option FieldType} {As : List Value} {K' : mm_K} {P' : mm_P} {nx' sl' : Nat} (hM : mm_C (eL E) y (ws_ y bytes maxL rt) fr lc (As) K P nx sl (none, K', P', nx', sl')) (cv : mm_CS own index y bytes maxL rt n) (hlen : As.length = n) (hfr : fr + 1 ≤ FR) (hlc : 8 + (maxL + 11) + lc ≤ LC) (hst : st0 = As.reverse ++ st) (hw : (st.map fun v => v.category).sum ≤ 8) (dd : decode cc pc = .ok (.invokestatic index, 3))
    (kk : mm_V E w (pc + 3) ls st K' P' nx' sl' f) : mm_V E w pc ls st0 K P nx sl (mm_mo w nx' sl' f) := mm_callS C hM cv hlen hfr hlc hst hw (fun _ h _ => (mm_mo_some h).2) dd (r_mo kk)
theorem r_callU (C : mm_Cx E own cc nL ret FR LC) {index n maxL fr lc : Nat} {k b : Nat} {x : MethodName} {y : MethodName} {bytes : ByteArray} {rt : Option FieldType} {As : List Value} {v : Value} {P' : mm_P} (hM : mm_C (eL E) y (ws_ y bytes maxL rt) fr lc (.ref b :: As) K P nx sl (some v, K, P', nx, sl)) (cv : mm_CU own index x y bytes maxL rt n k) (hk : K.1 b = k) (hlen : As.length = n) (hfr : fr + 1 ≤ FR) (hlc : 8 + (maxL + 11) + lc ≤ LC) (hst : st0 = As.reverse ++ .ref b :: st) (hw : (st.map fun v => v.category).sum ≤ 8) (dd : decode cc pc = .ok (.invokevirtual index, 3))
    (kk : mm_V E w (pc + 3) ls (v :: st) K P' nx sl f) : mm_V E w pc ls st0 K P nx sl f := mm_callU C hM cv hk hlen hfr hlc hst hw (fun _ _ h => h) dd kk
theorem r_acallU (C : mm_Cx E own cc nL ret FR LC) {index n maxL fr lc : Nat} {k b : Nat} {x : MethodName} {y : MethodName} {bytes : ByteArray} {rt : Option FieldType} {As : List Value} {v : Value} {K' : mm_K} {P' : mm_P} {nx' sl' : Nat} (hM : mm_C (eL E) y (ws_ y bytes maxL rt) fr lc (.ref b :: As) K P nx sl (some v, K', P', nx', sl')) (cv : mm_CU own index x y bytes maxL rt n k) (hk : K.1 b = k) (hlen : As.length = n) (hfr : fr + 1 ≤ FR) (hlc : 8 + (maxL + 11) + lc ≤ LC) (hst : st0 = As.reverse ++ .ref b :: st) (hw : (st.map fun v => v.category).sum ≤ 8) (dd : decode cc pc = .ok (.invokevirtual index, 3))
    (kk : mm_V E w (pc + 3) ls (v :: st) K' P' nx' sl' f) : mm_V E w pc ls st0 K P nx sl (mm_mo w nx' sl' f) := mm_callU C hM cv hk hlen hfr hlc hst hw (fun _ h _ => (mm_mo_some h).2) dd (r_mo kk)
theorem r_callUv (C : mm_Cx E own cc nL ret FR LC) {index n maxL fr lc : Nat} {k b : Nat} {x : MethodName} {y : MethodName} {bytes : ByteArray} {rt : Option FieldType} {As : List Value} {P' : mm_P} (hM : mm_C (eL E) y (ws_ y bytes maxL rt) fr lc (.ref b :: As) K P nx sl (none, K, P', nx, sl)) (cv : mm_CU own index x y bytes maxL rt n k) (hk : K.1 b = k) (hlen : As.length = n) (hfr : fr + 1 ≤ FR) (hlc : 8 + (maxL + 11) + lc ≤ LC) (hst : st0 = As.reverse ++ .ref b :: st) (hw : (st.map fun v => v.category).sum ≤ 8) (dd : decode cc pc = .ok (.invokevirtual index, 3))
    (kk : mm_V E w (pc + 3) ls st K P' nx sl f) : mm_V E w pc ls st0 K P nx sl f := mm_callU C hM cv hk hlen hfr hlc hst hw (fun _ _ h => h) dd kk
theorem r_acallUv (C : mm_Cx E own cc nL ret FR LC) {index n maxL fr lc : Nat} {k b : Nat} {x : MethodName} {y : MethodName} {bytes : ByteArray} {rt : Option FieldType} {As : List Value} {K' : mm_K} {P' : mm_P} {nx' sl' : Nat} (hM : mm_C (eL E) y (ws_ y bytes maxL rt) fr lc (.ref b :: As) K P nx sl (none, K', P', nx', sl')) (cv : mm_CU own index x y bytes maxL rt n k) (hk : K.1 b = k) (hlen : As.length = n) (hfr : fr + 1 ≤ FR) (hlc : 8 + (maxL + 11) + lc ≤ LC) (hst : st0 = As.reverse ++ .ref b :: st) (hw : (st.map fun v => v.category).sum ≤ 8) (dd : decode cc pc = .ok (.invokevirtual index, 3))
    (kk : mm_V E w (pc + 3) ls st K' P' nx' sl' f) : mm_V E w pc ls st0 K P nx sl (mm_mo w nx' sl' f) := mm_callU C hM cv hk hlen hfr hlc hst hw (fun _ h _ => (mm_mo_some h).2) dd (r_mo kk)
theorem r_callVN (C : mm_Cx E own cc nL ret FR LC) {index n maxL fr lc : Nat} {k b : Nat} {y : MethodName} {bytes : ByteArray} {rt : Option FieldType} {As : List Value} {v : Value} {P' : mm_P} (hM : mm_C (eL E) y (ws_ y bytes maxL rt) fr lc (.ref b :: As) K P nx sl (some v, K, P', nx, sl)) (cv : mm_CVN own index y bytes maxL rt n k) (hk : K.1 b = k) (hlen : As.length = n) (hfr : fr + 1 ≤ FR) (hlc : 8 + (maxL + 11) + lc ≤ LC) (hst : st0 = As.reverse ++ .ref b :: st) (hw : (st.map fun v => v.category).sum ≤ 8) (dd : decode cc pc = .ok (.invokevirtual index, 3))
    (kk : mm_V E w (pc + 3) ls (v :: st) K P' nx sl f) : mm_V E w pc ls st0 K P nx sl f := mm_callVN C hM cv hk hlen hfr hlc hst hw (fun _ _ h => h) dd kk
theorem r_acallVN (C : mm_Cx E own cc nL ret FR LC) {index n maxL fr lc : Nat} {k b : Nat} {y : MethodName} {bytes : ByteArray} {rt : Option FieldType} {As : List Value} {v : Value} {K' : mm_K} {P' : mm_P} {nx' sl' : Nat} (hM : mm_C (eL E) y (ws_ y bytes maxL rt) fr lc (.ref b :: As) K P nx sl (some v, K', P', nx', sl')) (cv : mm_CVN own index y bytes maxL rt n k) (hk : K.1 b = k) (hlen : As.length = n) (hfr : fr + 1 ≤ FR) (hlc : 8 + (maxL + 11) + lc ≤ LC) (hst : st0 = As.reverse ++ .ref b :: st) (hw : (st.map fun v => v.category).sum ≤ 8) (dd : decode cc pc = .ok (.invokevirtual index, 3))
    (kk : mm_V E w (pc + 3) ls (v :: st) K' P' nx' sl' f) : mm_V E w pc ls st0 K P nx sl (mm_mo w nx' sl' f) := mm_callVN C hM cv hk hlen hfr hlc hst hw (fun _ h _ => (mm_mo_some h).2) dd (r_mo kk)
theorem r_callVNv (C : mm_Cx E own cc nL ret FR LC) {index n maxL fr lc : Nat} {k b : Nat} {y : MethodName} {bytes : ByteArray} {rt : Option FieldType} {As : List Value} {P' : mm_P} (hM : mm_C (eL E) y (ws_ y bytes maxL rt) fr lc (.ref b :: As) K P nx sl (none, K, P', nx, sl)) (cv : mm_CVN own index y bytes maxL rt n k) (hk : K.1 b = k) (hlen : As.length = n) (hfr : fr + 1 ≤ FR) (hlc : 8 + (maxL + 11) + lc ≤ LC) (hst : st0 = As.reverse ++ .ref b :: st) (hw : (st.map fun v => v.category).sum ≤ 8) (dd : decode cc pc = .ok (.invokevirtual index, 3))
    (kk : mm_V E w (pc + 3) ls st K P' nx sl f) : mm_V E w pc ls st0 K P nx sl f := mm_callVN C hM cv hk hlen hfr hlc hst hw (fun _ _ h => h) dd kk
theorem r_acallVNv (C : mm_Cx E own cc nL ret FR LC) {index n maxL fr lc : Nat} {k b : Nat} {y : MethodName} {bytes : ByteArray} {rt : Option FieldType} {As : List Value} {K' : mm_K} {P' : mm_P} {nx' sl' : Nat} (hM : mm_C (eL E) y (ws_ y bytes maxL rt) fr lc (.ref b :: As) K P nx sl (none, K', P', nx', sl')) (cv : mm_CVN own index y bytes maxL rt n k) (hk : K.1 b = k) (hlen : As.length = n) (hfr : fr + 1 ≤ FR) (hlc : 8 + (maxL + 11) + lc ≤ LC) (hst : st0 = As.reverse ++ .ref b :: st) (hw : (st.map fun v => v.category).sum ≤ 8) (dd : decode cc pc = .ok (.invokevirtual index, 3))
    (kk : mm_V E w (pc + 3) ls st K' P' nx' sl' f) : mm_V E w pc ls st0 K P nx sl (mm_mo w nx' sl' f) := mm_callVN C hM cv hk hlen hfr hlc hst hw (fun _ h _ => (mm_mo_some h).2) dd (r_mo kk)
theorem r_callSN (C : mm_Cx E own cc nL ret FR LC) {index n maxL fr lc : Nat} {y : MethodName} {bytes : ByteArray} {rt : Option FieldType} {As : List Value} {v : Value} {P' : mm_P} (hM : mm_C (eL E) y (ws_ y bytes maxL rt) fr lc (As) K P nx sl (some v, K, P', nx, sl)) (cv : mm_CSN own index y bytes maxL rt n) (hlen : As.length = n) (hfr : fr + 1 ≤ FR) (hlc : 8 + (maxL + 11) + lc ≤ LC) (hst : st0 = As.reverse ++ st) (hw : (st.map fun v => v.category).sum ≤ 8) (dd : decode cc pc = .ok (.invokestatic index, 3))
    (kk : mm_V E w (pc + 3) ls (v :: st) K P' nx sl f) : mm_V E w pc ls st0 K P nx sl f := mm_callSN C hM cv hlen hfr hlc hst hw (fun _ _ h => h) dd kk
theorem r_acallSN (C : mm_Cx E own cc nL ret FR LC) {index n maxL fr lc : Nat} {y : MethodName} {bytes : ByteArray} {rt : Option FieldType} {As : List Value} {v : Value} {K' : mm_K} {P' : mm_P} {nx' sl' : Nat} (hM : mm_C (eL E) y (ws_ y bytes maxL rt) fr lc (As) K P nx sl (some v, K', P', nx', sl')) (cv : mm_CSN own index y bytes maxL rt n) (hlen : As.length = n) (hfr : fr + 1 ≤ FR) (hlc : 8 + (maxL + 11) + lc ≤ LC) (hst : st0 = As.reverse ++ st) (hw : (st.map fun v => v.category).sum ≤ 8) (dd : decode cc pc = .ok (.invokestatic index, 3))
    (kk : mm_V E w (pc + 3) ls (v :: st) K' P' nx' sl' f) : mm_V E w pc ls st0 K P nx sl (mm_mo w nx' sl' f) := mm_callSN C hM cv hlen hfr hlc hst hw (fun _ h _ => (mm_mo_some h).2) dd (r_mo kk)
theorem r_callSNv (C : mm_Cx E own cc nL ret FR LC) {index n maxL fr lc : Nat} {y : MethodName} {bytes : ByteArray} {rt : Option FieldType} {As : List Value} {P' : mm_P} (hM : mm_C (eL E) y (ws_ y bytes maxL rt) fr lc (As) K P nx sl (none, K, P', nx, sl)) (cv : mm_CSN own index y bytes maxL rt n) (hlen : As.length = n) (hfr : fr + 1 ≤ FR) (hlc : 8 + (maxL + 11) + lc ≤ LC) (hst : st0 = As.reverse ++ st) (hw : (st.map fun v => v.category).sum ≤ 8) (dd : decode cc pc = .ok (.invokestatic index, 3))
    (kk : mm_V E w (pc + 3) ls st K P' nx sl f) : mm_V E w pc ls st0 K P nx sl f := mm_callSN C hM cv hlen hfr hlc hst hw (fun _ _ h => h) dd kk
theorem r_acallSNv (C : mm_Cx E own cc nL ret FR LC) {index n maxL fr lc : Nat} {y : MethodName} {bytes : ByteArray} {rt : Option FieldType} {As : List Value} {K' : mm_K} {P' : mm_P} {nx' sl' : Nat} (hM : mm_C (eL E) y (ws_ y bytes maxL rt) fr lc (As) K P nx sl (none, K', P', nx', sl')) (cv : mm_CSN own index y bytes maxL rt n) (hlen : As.length = n) (hfr : fr + 1 ≤ FR) (hlc : 8 + (maxL + 11) + lc ≤ LC) (hst : st0 = As.reverse ++ st) (hw : (st.map fun v => v.category).sum ≤ 8) (dd : decode cc pc = .ok (.invokestatic index, 3))
    (kk : mm_V E w (pc + 3) ls st K' P' nx' sl' f) : mm_V E w pc ls st0 K P nx sl (mm_mo w nx' sl' f) := mm_callSN C hM cv hlen hfr hlc hst hw (fun _ h _ => (mm_mo_some h).2) dd (r_mo kk)
theorem r_callIv (C : mm_Cx E own cc nL ret FR LC) {index n maxL fr lc : Nat} {b : Nat} {y : MethodName} {bytes : ByteArray} {As : List Value} {P' : mm_P} (hM : mm_C (eL E) y (ws_ y bytes maxL none) fr lc (.ref b :: As) K P nx sl (none, K, P', nx, sl)) (cv : mm_CI own index y bytes maxL n) (hlen : As.length = n) (hfr : fr + 1 ≤ FR) (hlc : 8 + (maxL + 11) + lc ≤ LC) (hst : st0 = As.reverse ++ .ref b :: st) (hw : (st.map fun v => v.category).sum ≤ 8) (dd : decode cc pc = .ok (.invokespecial index, 3))
    (kk : mm_V E w (pc + 3) ls st K P' nx sl f) : mm_V E w pc ls st0 K P nx sl f := mm_callI C hM cv hlen hfr hlc hst hw (fun _ _ h => h) dd kk
theorem r_acallIv (C : mm_Cx E own cc nL ret FR LC) {index n maxL fr lc : Nat} {b : Nat} {y : MethodName} {bytes : ByteArray} {As : List Value} {K' : mm_K} {P' : mm_P} {nx' sl' : Nat} (hM : mm_C (eL E) y (ws_ y bytes maxL none) fr lc (.ref b :: As) K P nx sl (none, K', P', nx', sl')) (cv : mm_CI own index y bytes maxL n) (hlen : As.length = n) (hfr : fr + 1 ≤ FR) (hlc : 8 + (maxL + 11) + lc ≤ LC) (hst : st0 = As.reverse ++ .ref b :: st) (hw : (st.map fun v => v.category).sum ≤ 8) (dd : decode cc pc = .ok (.invokespecial index, 3))
    (kk : mm_V E w (pc + 3) ls st K' P' nx' sl' f) : mm_V E w pc ls st0 K P nx sl (mm_mo w nx' sl' f) := mm_callI C hM cv hlen hfr hlc hst hw (fun _ h _ => (mm_mo_some h).2) dd (r_mo kk)
theorem r_callINv (C : mm_Cx E own cc nL ret FR LC) {index n maxL fr lc : Nat} {b : Nat} {y : MethodName} {bytes : ByteArray} {As : List Value} {P' : mm_P} (hM : mm_C (eL E) y (ws_ y bytes maxL none) fr lc (.ref b :: As) K P nx sl (none, K, P', nx, sl)) (cv : mm_CIN own index y bytes maxL n) (hlen : As.length = n) (hfr : fr + 1 ≤ FR) (hlc : 8 + (maxL + 11) + lc ≤ LC) (hst : st0 = As.reverse ++ .ref b :: st) (hw : (st.map fun v => v.category).sum ≤ 8) (dd : decode cc pc = .ok (.invokespecial index, 3))
    (kk : mm_V E w (pc + 3) ls st K P' nx sl f) : mm_V E w pc ls st0 K P nx sl f := mm_callIN C hM cv hlen hfr hlc hst hw (fun _ _ h => h) dd kk
theorem r_acallINv (C : mm_Cx E own cc nL ret FR LC) {index n maxL fr lc : Nat} {b : Nat} {y : MethodName} {bytes : ByteArray} {As : List Value} {K' : mm_K} {P' : mm_P} {nx' sl' : Nat} (hM : mm_C (eL E) y (ws_ y bytes maxL none) fr lc (.ref b :: As) K P nx sl (none, K', P', nx', sl')) (cv : mm_CIN own index y bytes maxL n) (hlen : As.length = n) (hfr : fr + 1 ≤ FR) (hlc : 8 + (maxL + 11) + lc ≤ LC) (hst : st0 = As.reverse ++ .ref b :: st) (hw : (st.map fun v => v.category).sum ≤ 8) (dd : decode cc pc = .ok (.invokespecial index, 3))
    (kk : mm_V E w (pc + 3) ls st K' P' nx' sl' f) : mm_V E w pc ls st0 K P nx sl (mm_mo w nx' sl' f) := mm_callIN C hM cv hlen hfr hlc hst hw (fun _ h _ => (mm_mo_some h).2) dd (r_mo kk)
def mm_max (x y : Int32) : Int32 := if x < y then y else x
def mm_min (x y : Int32) : Int32 := if y < x then y else x
theorem r_mmax (C : mm_Cx E own cc nL ret FR LC) {index : Nat} {x y : Int32} (hl : Cond.methodLink own index Lib.Math.max.name ∈ lw_all) (h2 : Cond.static Lib.Math.max.name ∈ lw_all) (h3 : Cond.initialized "java/lang/Math" ∈ lw_all) (h4 : Cond.code Lib.Math.max.name Lib.Math.max.code 2 (some .int) ∈ lw_all) (hfr : 1 ≤ FR) (hlc : 21 ≤ LC) (hw : (st.map fun v => v.category).sum ≤ 8) (d : decode cc pc = .ok (.invokestatic index, 3)) (kk : mm_V E w (pc + 3) ls (.int (mm_max x y) :: st) K P nx sl f) : mm_V E w pc ls (.int y :: .int x :: st) K P nx sl f := by
  intro out ho H locs la hI
  have h := hI
  obtain ⟨hls, hW, hsz, hn1, hs1, hS, hc1, hc2⟩ := hI
  exact va_mmax C.x C.b (hls.1.symm) C.ow (C.ts _ hl) (C.ts _ h2) (C.ts _ h3) (C.ts _ h4) (by rw [C.fr]; exact hfr) (by rw [C.lc]; omega) (by omega) (by omega) d (kk out ho H locs la h)
theorem r_mmin (C : mm_Cx E own cc nL ret FR LC) {index : Nat} {x y : Int32} (hl : Cond.methodLink own index Lib.Math.min.name ∈ lw_all) (h2 : Cond.static Lib.Math.min.name ∈ lw_all) (h3 : Cond.initialized "java/lang/Math" ∈ lw_all) (h4 : Cond.code Lib.Math.min.name Lib.Math.min.code 2 (some .int) ∈ lw_all) (hfr : 1 ≤ FR) (hlc : 21 ≤ LC) (hw : (st.map fun v => v.category).sum ≤ 8) (d : decode cc pc = .ok (.invokestatic index, 3)) (kk : mm_V E w (pc + 3) ls (.int (mm_min x y) :: st) K P nx sl f) : mm_V E w pc ls (.int y :: .int x :: st) K P nx sl f := by
  intro out ho H locs la hI
  have h := hI
  obtain ⟨hls, hW, hsz, hn1, hs1, hS, hc1, hc2⟩ := hI
  exact va_mmin C.x C.b (hls.1.symm) C.ow (C.ts _ hl) (C.ts _ h2) (C.ts _ h3) (C.ts _ h4) (by rw [C.fr]; exact hfr) (by rw [C.lc]; omega) (by omega) (by omega) d (kk out ho H locs la h)
theorem mm_lkD {x : Int32} {d : Int} : ∀ (l : List (Int × Int)), (∀ c ∈ l.map (fun p => Int32.ofInt p.1), ¬ x = c) → Op.lookupswitch.offset l d x.toInt = d := by
  intro l
  induction l with
  | nil => intro _; rfl
  | cons q l ih =>
    intro h
    obtain ⟨a, o⟩ := q
    rw [Op.lookupswitch.offset_cons]
    rw [if_neg]
    · exact ih (fun c hc => h c (List.mem_cons_of_mem _ hc))
    · intro e
      refine h (Int32.ofInt a) List.mem_cons_self ?_
      rw [e, Int32.ofInt_toInt]
theorem r_lookupC (C : mm_Cx E own cc nL ret FR LC) {dflt : Int} {ps : Array (Int × Int)} {len : Nat} {x c : Int32} {off : Int} {tgt : Nat} (d : decode cc pc = .ok (.lookupswitch dflt ps, len)) (hx : x = c) (hp : (ps.toList.zip (ps.toList.drop 1)).all (fun (a, next) => a.1 < next.1) = true) (ho : Op.lookupswitch.offset ps.toList dflt c.toInt = off) (ht : (pc : Int) + off = (tgt : Int)) (k : mm_V E w tgt ls st K P nx sl f) : mm_V E w pc ls (.int x :: st) K P nx sl f := by
  subst hx
  exact r_lookup C d hp ho ht k
theorem r_lookupD (C : mm_Cx E own cc nL ret FR LC) {dflt : Int} {ps : Array (Int × Int)} {len : Nat} {x : Int32} {tgt : Nat} {cs : List Int32} (d : decode cc pc = .ok (.lookupswitch dflt ps, len)) (hcs : ∀ c ∈ cs, ¬ x = c) (hm : ps.toList.map (fun p => Int32.ofInt p.1) = cs) (hp : (ps.toList.zip (ps.toList.drop 1)).all (fun (a, next) => a.1 < next.1) = true) (ht : (pc : Int) + dflt = (tgt : Int)) (k : mm_V E w tgt ls st K P nx sl f) : mm_V E w pc ls (.int x :: st) K P nx sl f := by
  subst hm
  exact r_lookup C d hp (mm_lkD _ hcs) ht k
def mm_ushr (x y : Int32) : Int32 := (x.toUInt32 >>> (y.toUInt32 &&& Int32.toUInt32 31)).toInt32
theorem r_iushr (C : mm_Cx E own cc nL ret FR LC) {x y : Int32} (d : decode cc pc = .ok (.iushr, 1)) (k : mm_V E w (pc + 1) ls (.int (mm_ushr x y) :: st) K P nx sl f) : mm_V E w pc ls (.int y :: .int x :: st) K P nx sl f := fun out ho H locs la h => lv_iushr C.x C.b d rfl (k out ho H locs la h)
/-! references -/
theorem r_acmpeq (C : mm_Cx E own cc nL ret FR LC) {x y : Option Nat} {vx vy : Value} {off : Int} {tgt : Nat} {g : Option α} (hx : va_rf x = vx) (hy : va_rf y = vy) (d : decode cc pc = .ok (.if_acmp .eq off, 3)) (ht : (pc : Int) + off = (tgt : Int)) (kt : x = y → mm_V E w tgt ls st K P nx sl f) (kf : ¬ x = y → mm_V E w (pc + 3) ls st K P nx sl g) : mm_V E w pc ls (vy :: vx :: st) K P nx sl (if x = y then f else g) := by
  subst hx
  subst hy
  intro out ho H locs la h
  by_cases hc : x = y
  · rw [if_pos hc] at ho
    exact lv_acmp_eq C.x C.b d ht (fun _ => kt hc out ho H locs la h) (fun q => absurd hc q)
  · rw [if_neg hc] at ho
    exact lv_acmp_eq C.x C.b d ht (fun q => absurd q hc) (fun _ => kf hc out ho H locs la h)
theorem r_acmpne (C : mm_Cx E own cc nL ret FR LC) {x y : Option Nat} {vx vy : Value} {off : Int} {tgt : Nat} {g : Option α} (hx : va_rf x = vx) (hy : va_rf y = vy) (d : decode cc pc = .ok (.if_acmp .ne off, 3)) (ht : (pc : Int) + off = (tgt : Int)) (kt : x ≠ y → mm_V E w tgt ls st K P nx sl f) (kf : ¬ (x ≠ y) → mm_V E w (pc + 3) ls st K P nx sl g) : mm_V E w pc ls (vy :: vx :: st) K P nx sl (if x ≠ y then f else g) := by
  subst hx
  subst hy
  intro out ho H locs la h
  by_cases hc : x = y
  · rw [if_neg (fun q => q hc)] at ho
    exact lv_acmp_ne C.x C.b d ht (fun q => absurd hc q) (fun _ => kf (fun q => q hc) out ho H locs la h)
  · rw [if_pos hc] at ho
    exact lv_acmp_ne C.x C.b d ht (fun _ => kt hc out ho H locs la h) (fun q => absurd q hc)
/-- a cast that holds, by the receiver's class -/
def mm_CA (own : String) (index k : Nat) : Prop := ∃ (Cn nm : String) (T : u_T) (N : Nat) (l : List mm_F), Cond.classLink own index nm ∈ lw_all ∧ mm_cl[mm_ci k]? = some (Cn, T, N) ∧ mm_fd k = some l ∧ (Cn = nm ∨ Cond.castable Cn nm ∈ nw_all)
theorem r_cast (C : mm_Cx E own cc nL ret FR LC) {index k a : Nat} (ca : mm_CA own index k) (hk : K.1 a = k) (d : decode cc pc = .ok (.checkcast index, 3)) (kk : mm_V E w (pc + 3) ls (.ref a :: st) K P nx sl f) : mm_V E w pc ls (.ref a :: st) K P nx sl f := by
  intro out ho H locs la hI
  obtain ⟨Cn, nm, T, N, l, hl, hc, hf, hca⟩ := ca
  have hrv := va_recv C.k (mm_P1 (hI.2.1.at (mm_cell_obj (cA := (eF E).1) (P := P) hk hf))) hc (q0 := 0) rfl
  rcases hca with rfl | hca
  · exact va_castS C.x C.b C.ow (C.ts _ hl) (C.k.1 _ _ hc).2 hrv d (kk out ho H locs la hI)
  · exact va_castY C.x C.b C.ow (C.ts _ hl) (C.nw _ hca) hrv d (kk out ho H locs la hI)
theorem r_aretR {rt : FieldType} (C : mm_Cx E own cc nL (some rt) FR LC) {x : Nat} {o : α} (hrt : (∃ n, rt = .object n) ∨ ∃ t, rt = .array t) (dd : decode cc pc = .ok (.areturn, 1)) (hw : w o = (some (.ref x), K, P, nx, sl)) : mm_V E w pc ls [.ref x] K P nx sl (some o) := r_aret (x := some x) C hrt rfl dd hw
end CALLS
theorem mm_startF {l : Launch} {y : MethodName} {cc : ByteArray} {maxL fr lc : Nat} {ret : Option FieldType} {argv : List Value} {K : mm_K} {P : mm_P} {nx sl : Nat} {α : Type} {w : α → mm_O} {x : Option α} {out : α} {ls : List (Option Value)} (hx : x = some out) (hy : plainFor y = true) (hlen : (lg_sl argv).length ≤ maxL) (hls : mm_of 0 maxL (lv_args 0 argv) = ls) (hn : nx ≤ oN (w out)) (hs : sl ≤ oS (w out)) (hq : mm_thr (w out) = none)
    (body : ∀ E : mm_E, eL E = l → eN E = nx → eO E = sl → (y.name = "<init>" → (eT E).name = "<init>") → mm_Cx E y.cls cc maxL ret fr lc → mm_V E w 0 ls [] K P nx sl x) : mm_C l y (ws_ y cc maxL ret) fr lc argv K P nx sl (w out) := by
  refine ⟨hn, hs, fun D cA A0 => ?_⟩
  refine va_MetF (cc := cc) (maxL := maxL) (ret := ret) hy rfl ?_
  intro p e s m args below meth c s₁ B hml hv
  obtain ⟨rfl, hsz, hW, hK, hA, hN, hZ, hO⟩ := hv
  have hts0 := atoms_spec (ws := ws_ y cc maxL ret) B.pre
  have hts : ∀ w ∈ lw_all, w.before _ s = true := fun w h => hts0 w (List.mem_cons_of_mem _ h)
  have hown : s.vm.findClass y.cls = some m.cls := findClass_of_methodNamed B.named
  have hl := lv_entry argv (n := maxL) hlen
  rw [lg_entry_eq]
  generalize (lg_sl argv ++ List.replicate (maxL - (lg_sl argv).length) Slot.unset).toArray = la at hl ⊢
  have h0 := body (p, l, e, ({ frames := fr, cells := oN (w out) - nx, slots := oS (w out) - sl, locals := lc } : Room), s, m, argv.toArray, below, meth, c, D, cA, A0, nx, sl) rfl rfl rfl (fun h => by rw [← h]; exact (name_of_methodNamed B.named B.method).1)
    ⟨B.exec, B.bytes, hml, hown, hts, hK, fun q hq => hA q (by rw [← hsz]; exact hq), B.notSynchronized, rfl, rfl, hN, B.returns, hsz, hZ, hO⟩ out hx s.heap [] la
    ⟨⟨hl.1.trans hml.symm, hl.2.1, fun i v hi => by rw [← hls] at hi; have := mm_of_at _ _ _ hi; rw [Nat.zero_add] at this; exact hl.2.2 (i, v) this⟩, hW, hsz, ⟨Nat.le_refl _, hn⟩, ⟨Nat.le_refl _, hs⟩, va_S.rf, Nat.le_refl _, Nat.le_refl _⟩
  have e1 : nx - nx = 0 := Nat.sub_self _
  have e2 : sl - sl = 0 := Nat.sub_self _
  unfold mm_T at h0
  rw [mm_Q_n hq] at h0
  dsimp only [eP, eL, eE, eR, eS, eM, eV, eB, eT, eC, eN, eO] at h0
  rw [e1, e2] at h0
  exact h0

