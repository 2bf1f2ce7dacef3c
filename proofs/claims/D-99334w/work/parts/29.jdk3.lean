/-! casts to arrays; a private method of a superclass, called on an object of a class below -/
set_option maxRecDepth 100000
theorem mm_selP {y z : MethodName} {Cn : String} {args : Array Value} {s : State} (hy : y.cls ≠ "java/lang/invoke/MethodHandle" ∧ y.cls ≠ "java/lang/invoke/VarHandle") (hyz : y.cls = z.cls) (h1 : (Cond.selects Cn z z).before args s = true) (hp : (Cond.privateMethod y).before args s = true) (hi : (Cond.instanceMethod y).before args s = true) : (Cond.selects Cn y y).before args s = true := by
  obtain ⟨c, r, m2, q1, q2, q3, q4, kP, hkP, hkPi⟩ := Cond.selects_spec h1
  obtain ⟨mk, methM, hnamed, hmethM, -, -⟩ := Cond.instanceMethod_spec hi
  have hfound := State.methodFound?_of_named hnamed hy
  have hcls : mk.cls = m2.cls := Option.some.inj ((findClass_of_methodNamed hnamed).symm.trans (by rw [hyz]; exact findClass_of_methodNamed q3))
  have hsel : selectMethod {} s.vm c mk = .method mk := selectMethod_private hmethM (Cond.privateMethod_at hp mk methM hnamed hmethM)
  simp only [Cond.before, Cond.holds, Cond.value, q1, hfound, hnamed, hsel, hcls, hkP]
  simp
  exact hkPi
theorem gi_sel {own Cn owner : String} {idx : Nat} {x y : MethodName} {ws : List Cond} (h1 : ∀ w ∈ ([.methodLink own idx x, .sameMethod x.cls owner x.name x.desc, .instanceMethod y, .initialized y.cls] : List Cond), w ∈ lw_all) (h2 : GoodIn lw_all ws) : GoodIn (Cond.selects Cn x y :: lw_all) (va_wsU own idx Cn owner x y ws) := by
  have up : ∀ w, w ∈ lw_all → w ∈ Cond.selects Cn x y :: lw_all ∧ ((w.onTables && w.keeps) = true ∨ ∃ ty, w = .arrayClass ty) := fun w hw => ⟨List.mem_cons_of_mem _ hw, (lw_self w hw).2⟩
  intro w hw
  unfold va_wsU at hw
  rcases List.mem_append.mp hw with e | e
  · simp only [List.mem_cons, List.not_mem_nil, or_false] at e
    rcases e with rfl | rfl | rfl | rfl | rfl
    · exact up _ (h1 _ (by simp))
    · exact up _ (h1 _ (by simp))
    · exact ⟨List.mem_cons_self, Or.inl rfl⟩
    · exact up _ (h1 _ (by simp))
    · exact up _ (h1 _ (by simp))
  · exact ⟨List.mem_cons_of_mem _ (h2 w e).1, (h2 w e).2⟩
section JDK3
variable {α : Type} {E : mm_E} {own : String} {cc : ByteArray} {nL : Nat} {ret : Option FieldType} {FR LC : Nat} {w : α → mm_O} {pc : Nat} {ls : List (Option Value)} {st st0 : List Value} {K : mm_K} {P : mm_P} {nx sl : Nat} {f : Option α}
theorem r_castB (C : mm_Cx E own cc nL ret FR LC) {index r a off n adr : Nat} (hl : Cond.classLink own index "[B" ∈ lw_all) (hr : mm_reg K r a off 1 n) (hro : mm_ro (K.1 a) = false) (hadr : a + off = adr) (d : decode cc pc = .ok (.checkcast index, 3)) (kk : mm_V E w (pc + 3) ls (.ref adr :: st) K P nx sl f) : mm_V E w pc ls (.ref adr :: st) K P nx sl f := by
  subst hadr
  intro out ho H locs la hI
  exact va_castA C.x C.b C.ow (C.ts _ hl) (mm_P1 (hI.2.1.at (mm_cell_arr (cA := (eF E).1) (P := P) hr) (mm_xt_ro hro))) 0 rfl (C.k.2 1 _ rfl).2 d (kk out ho H locs la hI)
theorem r_castO (C : mm_Cx E own cc nL ret FR LC) {index r a off n adr : Nat} (hl : Cond.classLink own index "[Ljava/lang/Object;" ∈ lw_all) (hr : mm_reg K r a off 4 n) (hadr : a + off = adr) (d : decode cc pc = .ok (.checkcast index, 3)) (kk : mm_V E w (pc + 3) ls (.ref adr :: st) K P nx sl f) : mm_V E w pc ls (.ref adr :: st) K P nx sl f := by
  subst hadr
  intro out ho H locs la hI
  exact va_castA C.x C.b C.ow (C.ts _ hl) (mm_P1 (hI.2.1.at (mm_cell_arr (cA := (eF E).1) (P := P) hr) (mm_xt_reg hr (by decide)))) 0 rfl (va_nmO (C.k.2 4 _ rfl).2 rfl) d (kk out ho H locs la hI)
def mm_CP (own : String) (index : Nat) (y : MethodName) (bytes : ByteArray) (maxL : Nat) (rt : Option FieldType) (n k : Nat) : Prop :=
  ∃ (Cn : String) (T : u_T) (N : Nat) (l : List mm_F) (z : MethodName), (y.cls ≠ "java/lang/invoke/MethodHandle" ∧ y.cls ≠ "java/lang/invoke/VarHandle" ∧ (parseMethodDescriptor y.desc).map (fun d => d.parameters.length) = some n) ∧ mm_cl[mm_ci k]? = some (Cn, T, N) ∧ mm_fd k = some l ∧ y.cls = z.cls ∧ Cond.selects Cn z z ∈ lw_all ∧ Cond.privateMethod y ∈ nw_all ∧ (∀ w ∈ ([.methodLink own index y, .sameMethod y.cls y.cls y.name y.desc, .instanceMethod y, .initialized y.cls] : List Cond), w ∈ lw_all) ∧ Cond.code y bytes maxL rt ∈ lw_all
theorem mm_callP (C : mm_Cx E own cc nL ret FR LC) {index n maxL fr lc : Nat} {k b : Nat} {y : MethodName} {bytes : ByteArray} {rt : Option FieldType} {As : List Value} {o : mm_O} (hM : mm_C (eL E) y (ws_ y bytes maxL rt) fr lc (.ref b :: As) K P nx sl o) (cv : mm_CP own index y bytes maxL rt n k) (hk : K.1 b = k) (hlen : As.length = n) (hfr : fr + 1 ≤ FR) (hlc : 8 + (maxL + 11) + lc ≤ LC) (hst : st0 = As.reverse ++ .ref b :: st) (hw : (st.map fun v => v.category).sum ≤ 8) (hmono : ∀ out, f = some out → nx ≤ oN (w out) ∧ sl ≤ oS (w out) → oN o ≤ oN (w out) ∧ oS o ≤ oS (w out)) (dd : decode cc pc = .ok (.invokevirtual index, 3))
    (kk : mm_V E w (pc + 3) ls ((oV o).toList ++ st) (oK o) (oP o) (oN o) (oS o) f) : mm_V E w pc ls st0 K P nx sl f := by
  intro out ho H locs la hI
  obtain ⟨Cn, T, N, l, z, hd, hc, hf, hyz, hz, hpv, hm, hcd⟩ := cv
  obtain ⟨h1, h2, hM⟩ := hM
  have hm0 := hmono out ho ⟨hI.2.2.2.1.2, hI.2.2.2.2.1.2⟩
  have hrv := va_recv C.k (mm_P1 (hI.2.1.at (mm_cell_obj (cA := (eF E).1) (P := P) hk hf))) hc (q0 := 0) rfl
  have hsel : (Cond.selects Cn y y).before (eV E) (eS E) = true := mm_selP ⟨hd.1, hd.2.1⟩ hyz (C.ts _ hz) (va_Nw.use rfl (C.nw _ hpv)) (C.ts _ (hm _ (by simp)))
  have hts : ∀ q ∈ Cond.selects Cn y y :: lw_all, q.before (eV E) (eS E) = true := fun q hq => by
    rcases List.mem_cons.mp hq with rfl | hq
    · exact hsel
    · exact C.ts q hq
  have hR : ({ frames := fr, cells := oN o - nx, slots := oS o - sl, locals := lc } : Room).frames + 1 ≤ (eR E).frames ∧ 8 + (maxL + 11) + ({ frames := fr, cells := oN o - nx, slots := oS o - sl, locals := lc } : Room).locals ≤ (eR E).locals := ⟨by rw [C.fr]; exact hfr, by rw [C.lc]; exact hlc⟩
  have cw : va_CU (eR E) (eS E) (eV E) own Cn y.cls index y y bytes maxL rt (ws_ y bytes maxL rt) { frames := fr, cells := oN o - nx, slots := oS o - sl, locals := lc } (oN o - nx) (oS o - sl) n := va_cwU n hts (gi_sel hm (lw_meth hcd)) rfl rfl rfl rfl hd hR
  refine mm_after C (va_runU ⟨C.x, C.b, C.ml, C.ow, hts⟩ (hM (eD E) (eF E) (eA E)) cw ⟨mm_blind, hrv, mm_pre C hI⟩ rfl hlen (hI.1.1.trans C.ml) hst (lv_room hw) dd ?_) hI h1 h2 hm0.1 hm0.2 ho kk
  obtain ⟨hls, hW, hsz, hn1, hs1, hS, hc1, hc2⟩ := hI
  constructor <;> omega
theorem r_callPv (C : mm_Cx E own cc nL ret FR LC) {index n maxL fr lc : Nat} {k b : Nat} {y : MethodName} {bytes : ByteArray} {rt : Option FieldType} {As : List Value} {P' : mm_P} (hM : mm_C (eL E) y (ws_ y bytes maxL rt) fr lc (.ref b :: As) K P nx sl (none, K, P', nx, sl)) (cv : mm_CP own index y bytes maxL rt n k) (hk : K.1 b = k) (hlen : As.length = n) (hfr : fr + 1 ≤ FR) (hlc : 8 + (maxL + 11) + lc ≤ LC) (hst : st0 = As.reverse ++ .ref b :: st) (hw : (st.map fun v => v.category).sum ≤ 8) (dd : decode cc pc = .ok (.invokevirtual index, 3))
    (kk : mm_V E w (pc + 3) ls st K P' nx sl f) : mm_V E w pc ls st0 K P nx sl f := mm_callP C hM cv hk hlen hfr hlc hst hw (fun _ _ h => h) dd kk
def mm_CSU (own : String) (index : Nat) (y : MethodName) (bytes : ByteArray) (maxL : Nat) (rt : Option FieldType) (n k : Nat) : Prop :=
  ∃ (Cn : String) (T : u_T) (N : Nat) (l : List mm_F), (y.name ≠ "<init>" ∧ (parseMethodDescriptor y.desc).map (fun d => d.parameters.length) = some n) ∧ mm_cl[mm_ci k]? = some (Cn, T, N) ∧ mm_fd k = some l ∧ (∀ w ∈ ([.methodLink own index y, .sameMethod y.cls y.cls y.name y.desc, .superclass own y.cls, .instanceMethod y, .initialized y.cls] : List Cond), w ∈ lw_all) ∧ Cond.code y bytes maxL rt ∈ lw_all
theorem mm_callSU (C : mm_Cx E own cc nL ret FR LC) {index n maxL fr lc : Nat} {k b : Nat} {y : MethodName} {bytes : ByteArray} {rt : Option FieldType} {As : List Value} {o : mm_O} (hM : mm_C (eL E) y (ws_ y bytes maxL rt) fr lc (.ref b :: As) K P nx sl o) (cv : mm_CSU own index y bytes maxL rt n k) (hk : K.1 b = k) (hlen : As.length = n) (hfr : fr + 1 ≤ FR) (hlc : 8 + (maxL + 11) + lc ≤ LC) (hst : st0 = As.reverse ++ .ref b :: st) (hw : (st.map fun v => v.category).sum ≤ 8) (hmono : ∀ out, f = some out → nx ≤ oN (w out) ∧ sl ≤ oS (w out) → oN o ≤ oN (w out) ∧ oS o ≤ oS (w out)) (dd : decode cc pc = .ok (.invokespecial index, 3))
    (kk : mm_V E w (pc + 3) ls ((oV o).toList ++ st) (oK o) (oP o) (oN o) (oS o) f) : mm_V E w pc ls st0 K P nx sl f := by
  intro out ho H locs la hI
  obtain ⟨Cn, T, N, l, hd, hc, hf, hm, hcd⟩ := cv
  obtain ⟨h1, h2, hM⟩ := hM
  have hm0 := hmono out ho ⟨hI.2.2.2.1.2, hI.2.2.2.2.1.2⟩
  have hrv := va_recv C.k (mm_P1 (hI.2.1.at (mm_cell_obj (cA := (eF E).1) (P := P) hk hf))) hc (q0 := 0) rfl
  have hR : ({ frames := fr, cells := oN o - nx, slots := oS o - sl, locals := lc } : Room).frames + 1 ≤ (eR E).frames ∧ 8 + (maxL + 11) + ({ frames := fr, cells := oN o - nx, slots := oS o - sl, locals := lc } : Room).locals ≤ (eR E).locals := ⟨by rw [C.fr]; exact hfr, by rw [C.lc]; exact hlc⟩
  have cw : va_CS (eR E) (eS E) (eV E) own index y bytes maxL rt (ws_ y bytes maxL rt) { frames := fr, cells := oN o - nx, slots := oS o - sl, locals := lc } (oN o - nx) (oS o - sl) n := va_cwSU n C.ts (lw_app hm (lw_meth hcd)) rfl rfl rfl hd hR
  refine mm_after C (va_runSU (C.k.1 _ _ hc).2 ⟨C.x, C.b, C.ml, C.ow, C.ts⟩ (hM (eD E) (eF E) (eA E)) cw ⟨mm_blind, hrv, mm_pre C hI⟩ rfl hlen (hI.1.1.trans C.ml) hst (lv_room hw) dd ?_) hI h1 h2 hm0.1 hm0.2 ho kk
  obtain ⟨hls, hW, hsz, hn1, hs1, hS, hc1, hc2⟩ := hI
  constructor <;> omega
theorem r_callSU (C : mm_Cx E own cc nL ret FR LC) {index n maxL fr lc : Nat} {k b : Nat} {y : MethodName} {bytes : ByteArray} {rt : Option FieldType} {As : List Value} {v : Value} {P' : mm_P} (hM : mm_C (eL E) y (ws_ y bytes maxL rt) fr lc (.ref b :: As) K P nx sl (some v, K, P', nx, sl)) (cv : mm_CSU own index y bytes maxL rt n k) (hk : K.1 b = k) (hlen : As.length = n) (hfr : fr + 1 ≤ FR) (hlc : 8 + (maxL + 11) + lc ≤ LC) (hst : st0 = As.reverse ++ .ref b :: st) (hw : (st.map fun v => v.category).sum ≤ 8) (dd : decode cc pc = .ok (.invokespecial index, 3))
    (kk : mm_V E w (pc + 3) ls (v :: st) K P' nx sl f) : mm_V E w pc ls st0 K P nx sl f := mm_callSU C hM cv hk hlen hfr hlc hst hw (fun _ _ h => h) dd kk
end JDK3
theorem in_J32 : ∀ w ∈ u_ws RJ3 TJ3 2, w ∈ lw_all := lw_in (u_ws RJ3 TJ3 2) [816, 818] (by decide +kernel) (by decide +kernel)
