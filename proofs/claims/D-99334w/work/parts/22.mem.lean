/-! ROWS OF mm_V for fields, arrays, answers and calls; a method's start. -/
set_option maxRecDepth 100000
def mm_LK (own : String) (index : Nat) (ref nm d : String) : Prop := Cond.fieldLink own index ref nm d ∈ lw_all ∨ (∃ host, Cond.fieldLinkNest own index ref nm d host ∈ nw_all) ∨ ∃ r2, Cond.fieldLink own index r2 nm d ∈ lw_all ∧ Cond.sameField r2 ref nm d ∈ lw_all
/-- what the tables say of a field that 'own' names by 'index': the j-th of class code k -/
def mm_FL (own : String) (index k j : Nat) (d : mm_F) (ty : FieldType) (fin : Bool) : Prop :=
  ∃ (Cn : String) (T : u_T) (N : Nat) (l : List mm_F) (ty0 : Nat → FieldType), mm_cl[mm_ci k]? = some (Cn, T, N) ∧ (∀ w ∈ u_ws Cn T N, w ∈ lw_all) ∧ mm_fd k = some l ∧ l[j]? = some d ∧ j < N ∧ mm_LK own index (T j).1 (T j).2.1 (T j).2.2.1 ∧ (∀ k, k < N → parseFieldDescriptor (T k).2.2.1 = some (ty0 k)) ∧ (∀ a, a < N → ∀ b, b < N → a ≠ b → (T a).2.1 ≠ (T b).2.1) ∧ ty0 j = ty ∧ (T j).2.2.2 = fin
theorem mm_W.at0 {D : va_G} {cA : mm_G} {A0 : Nat → Prop} {K : mm_K} {P : mm_P} {H : Heap} (hW : mm_W D cA A0 K P H) {a off : Nat} {e : va_E} (he : mm_cell cA.1 K P a off = some e) : mm_at D cA.2.2 (K.1 a) (a + off, e) H := by
  obtain ⟨-, own, hown⟩ := hW
  exact (hown a off e he).2.2
theorem mm_W.at {D : va_G} {cA : mm_G} {A0 : Nat → Prop} {K : mm_K} {P : mm_P} {H : Heap} (hW : mm_W D cA A0 K P H) {a off : Nat} {e : va_E} (he : mm_cell cA.1 K P a off = some e) (hx : mm_xt (K.1 a) e = true := by rfl) : va_at D mm_cl (a + off, e) H := (hW.at0 he).va hx
/-- an array of ints or bytes, of either kind, as a cell -/
theorem mm_W.lo {D : va_G} {cA : mm_G} {A0 : Nat → Prop} {K : mm_K} {P : mm_P} {H : Heap} (hW : mm_W D cA A0 K P H) {U : State} (hK : mm_KK D cA U) {r a off ek n : Nat} (hr : mm_reg K r a off ek n) : ∃ cell : Cell, H[a + off]? = some cell ∧ U.isArrayOf cell (mm_ety ek) ∧ cell.vm ≠ .unknown ∧ cell.slots = (vp_cell (cA.1 ek) (mm_ac P ek n r a)).slots := by
  have h := hW.at0 (mm_cell_arr (cA := cA.1) (P := P) hr)
  have hek := mm_reg_lt hr
  have hA := (hK.1.2 ek _ (mm_tys_at hek)).1
  by_cases hx : mm_xt (K.1 a) (.inl (cA.1 ek, mm_ac P ek n r a)) = true
  · have h1 : H[a + off]? = some (vp_cell (cA.1 ek) (mm_ac P ek n r a)) := h.va hx
    refine ⟨_, h1, ?_, ?_, rfl⟩
    · unfold mm_ac
      split
      · exact hA _ _
      · split
        · exact hA _ _
        · exact hA _ _
    · unfold mm_ac
      split
      · exact fun q => by cases q
      · split
        · exact fun q => by cases q
        · exact fun q => by cases q
  · unfold mm_at at h
    rw [if_neg hx] at h
    obtain ⟨cell, x, h0, h1, h2, h3, h4⟩ := h
    cases h0
    refine ⟨cell, h1, ?_, h3, h4⟩
    have h5 := hK.2 _ _ h2
    have h80 : ¬ K.1 a < 80 := fun q => hx (mm_xt_lt q)
    rcases hr with ⟨k, j, rfl, hk, ho, had⟩ | ⟨rfl, rfl, hf, har, rfl⟩
    · have := (mm_ad_lt had).1
      omega
    · have e : K.1 a - 80 = ek := by
        unfold mm_ar at har
        split at har
        · omega
        · split at har
          · injection har
          · cases har
      rw [e] at h5
      exact h5
theorem mm_W.wr {D : va_G} {cA : mm_G} {A0 : Nat → Prop} {K : mm_K} {P : mm_P} {H : Heap} (hW : mm_W D cA A0 K P H) {a off : Nat} {e : va_E} (he : mm_cell cA.1 K P a off = some e) (hro : mm_ro (K.1 a) = false) : A0 (a + off) := by
  obtain ⟨-, own, hown⟩ := hW
  exact (hown a off e he).2.1 hro
theorem mm_P1 {D : va_G} {cl : List vw_C} {q : Nat × va_E} {H : Heap} (h : va_at D cl q H) : va_P D cl [q] H := by
  intro k x hx
  cases k with
  | zero => cases hx; exact h
  | succ k => simp at hx
section MEM
variable {α : Type} {E : mm_E} {own : String} {cc : ByteArray} {nL : Nat} {ret : Option FieldType} {FR LC : Nat} {w : α → mm_O} {pc : Nat} {ls : List (Option Value)} {st : List Value} {K : mm_K} {P : mm_P} {nx sl : Nat} {f : Option α}
theorem mm_getV (C : mm_Cx E own cc nL ret FR LC) {index k j a : Nat} {d : mm_F} {ty : FieldType} {fin : Bool} (fl : mm_FL own index k j d ty fin) (hk : K.1 a = k) (dd : decode cc pc = .ok (.getfield index, 3)) (kk : mm_V E w (pc + 3) ls (mm_fv P a (mm_bs k + j) d :: st) K P nx sl f) : mm_V E w pc ls (.ref a :: st) K P nx sl f := by
  intro out ho H locs la h
  obtain ⟨Cn, T, N, l, ty0, hc, hin, hf, hj, hjN, hlk, -⟩ := fl
  have hP := mm_P1 (h.2.1.at (mm_cell_obj (cA := (eF E).1) (P := P) hk hf))
  have hv : (mm_fs P a (mm_bs k) l)[j]? = some (mm_fv P a (mm_bs k + j) d) := by rw [mm_fs_at, hj]; rfl
  rcases hlk with hlk | ⟨host, hlk⟩ | ⟨r2, hlk, hsf⟩
  · exact va_get C.x C.b C.ts hin C.ow C.k hP 0 rfl hc j hjN (C.ts _ hlk) (fun x hx => hx) hv dd (kk out ho H locs la h)
  · exact va_getN C.x C.b C.ts hin C.ow C.k hP 0 rfl hc j hjN (va_Nw.use rfl (C.nw _ hlk)) (fun x hx => hx) hv dd (kk out ho H locs la h)
  · exact va_get C.x C.b C.ts hin C.ow C.k hP 0 rfl hc j hjN (C.ts _ hlk) (fun x hx => u_same (C.ts _ hsf) x hx) hv dd (kk out ho H locs la h)
theorem r_getI (C : mm_Cx E own cc nL ret FR LC) {index k j a code : Nat} {ty : FieldType} {fin : Bool} (fl : mm_FL own index k j mm_i ty fin) (hk : K.1 a = k) (hc : mm_bs k + j = code) (dd : decode cc pc = .ok (.getfield index, 3)) (kk : mm_V E w (pc + 3) ls (.int (gI P code a) :: st) K P nx sl f) : mm_V E w pc ls (.ref a :: st) K P nx sl f := by
  subst hc
  exact mm_getV C fl hk dd kk
theorem r_getJ (C : mm_Cx E own cc nL ret FR LC) {index k j a code : Nat} {ty : FieldType} {fin : Bool} (fl : mm_FL own index k j mm_j ty fin) (hk : K.1 a = k) (hc : mm_bs k + j = code) (dd : decode cc pc = .ok (.getfield index, 3)) (kk : mm_V E w (pc + 3) ls (.long (gJ P code a) :: st) K P nx sl f) : mm_V E w pc ls (.ref a :: st) K P nx sl f := by
  subst hc
  exact mm_getV C fl hk dd kk
theorem r_getA (C : mm_Cx E own cc nL ret FR LC) {index k j a off ek len : Nat} {ty : FieldType} {fin : Bool} (fl : mm_FL own index k j (mm_a off ek len) ty fin) (hk : K.1 a = k) (dd : decode cc pc = .ok (.getfield index, 3)) (kk : mm_V E w (pc + 3) ls (.ref (a + off) :: st) K P nx sl f) : mm_V E w pc ls (.ref a :: st) K P nx sl f :=
  mm_getV C fl hk dd kk
theorem r_getRo (C : mm_Cx E own cc nL ret FR LC) {index k j a code : Nat} {ty : FieldType} {fin : Bool} (fl : mm_FL own index k j mm_r ty fin) (hk : K.1 a = k) (hc : mm_bs k + j = code) (dd : decode cc pc = .ok (.getfield index, 3)) (kk : mm_V E w (pc + 3) ls (va_rf (gR P code a) :: st) K P nx sl f) : mm_V E w pc ls (.ref a :: st) K P nx sl f := by
  subst hc
  exact mm_getV C fl hk dd kk
theorem r_getRn (C : mm_Cx E own cc nL ret FR LC) {index k j a code : Nat} {ty : FieldType} {fin : Bool} {g : Nat → Option α} (fl : mm_FL own index k j mm_r ty fin) (hk : K.1 a = k) (hc : mm_bs k + j = code) (dd : decode cc pc = .ok (.getfield index, 3)) (kk : ∀ b, gR P code a = some b → mm_V E w (pc + 3) ls (.ref b :: st) K P nx sl (g b)) : mm_V E w pc ls (.ref a :: st) K P nx sl (mm_bd (gR P code a) g) := by
  subst hc
  refine r_bd fun b hb => mm_getV C fl hk dd ?_
  have := kk b hb
  show mm_V E w (pc + 3) ls (va_rf (gR P (mm_bs k + j) a) :: st) K P nx sl (g b)
  rw [hb]
  exact this
theorem r_getT (C : mm_Cx E own cc nL ret FR LC) {index k j a code off : Nat} {ty : FieldType} {fin : Bool} {g : Nat → Option α} (fl : mm_FL own index k j (4, off, 0, 0) ty fin) (hk : K.1 a = k) (hc : mm_bs k + j = code) (dd : decode cc pc = .ok (.getfield index, 3)) (kk : ∀ b, gR P code a = some b → mm_V E w (pc + 3) ls (.ref (b + off) :: st) K P nx sl (g b)) : mm_V E w pc ls (.ref a :: st) K P nx sl (mm_bd (gR P code a) g) := by
  subst hc
  refine r_bd fun b hb => mm_getV C fl hk dd ?_
  have := kk b hb
  show mm_V E w (pc + 3) ls (va_rf ((gR P (mm_bs k + j) a).map (fun x => x + off)) :: st) K P nx sl (g b)
  rw [hb]
  exact this
/-- putfield of a field that isn't final -/
theorem mm_putV (C : mm_Cx E own cc nL ret FR LC) {index k j a : Nat} {d : mm_F} {ty : FieldType} {P' : mm_P} {v : Value} (fl : mm_FL own index k j d ty false) (hk : K.1 a = k) (hro : mm_ro k = false) (hv : mm_fv P' a (mm_bs k + j) d = v) (h1 : ∀ x y, (x ≠ mm_bs k + j ∨ y ≠ a) → gI P' x y = gI P x y) (h2 : ∀ x y, (x ≠ mm_bs k + j ∨ y ≠ a) → gR P' x y = gR P x y) (h3 : ∀ x y, (x ≠ mm_bs k + j ∨ y ≠ a) → gJ P' x y = gJ P x y) (h4 : gA P' = gA P) (h5 : gB P' = gB P) (h6 : gL P' = gL P) (hn : narrow ty v = v) (hfit : fits ty v = true)
    (dd : decode cc pc = .ok (.putfield index, 3)) (kk : mm_V E w (pc + 3) ls st K P' nx sl f) : mm_V E w pc ls (v :: .ref a :: st) K P nx sl f := by
  intro out ho H locs la h
  obtain ⟨Cn, T, N, l, ty0, hc, hin, hf, hj, hjN, hlk, hty, hnm, ht0, hfin⟩ := fl
  obtain ⟨hls, hW, hsz, hn1, hs1, hS, hc1, hc2⟩ := h
  have hcell := mm_cell_obj (cA := (eF E).1) (P := P) hk hf
  have hwr : eA E a := hW.wr hcell (by rw [hk]; exact hro)
  obtain ⟨r, g1, cell, q1, q2, q3, q4⟩ := hW.at hcell
  have hr : r = (Cn, T, N) := Option.some.inj (g1.symm.trans hc)
  subst hr
  have hap := va_apart (own := own) C.ts hin ty0 hty hnm C.k hc
  obtain ⟨hSl, hfc, kC, hkC, hkind⟩ := C.k.1 _ _ hc
  obtain ⟨cf, kf, fi, fd, hi, hsl⟩ := hSl j hjN
  have hlay := C.ts _ (hin _ (u_in_lay hjN))
  unfold u_lay at hlay
  rw [if_neg (by rw [hfin]; decide)] at hlay
  have hst := (u_facts hfc hkC (u_lays C.ts hin hjN) hi).1
  have hd : parseFieldDescriptor (T j).2.2.1 = some ty := by rw [hty j hjN, ht0]
  have hq := u_store hfc hkC hkind hlay hi hd hn hfit
  have hlen : j < (mm_fs P a (mm_bs k) l).length := by rw [mm_fs_len]; exact (List.getElem?_eq_some_iff.mp hj).1
  have fin : ∀ (H' : Heap), H'[a]? = some (cell.setSlot fd.slot v) → H'.size = H.size → (∀ q : Nat, q ≠ a → H'[q]? = H[q]?) → mm_T E (w out) (pc + 3) st nx sl H' (locs ++ [⟨a, fd.slot⟩]) la := by
    intro H' e1 e2 e3
    rw [hsl] at e1 ⊢
    refine kk out ho H' _ la ⟨hls, hW.put (fun i hi => h2 i 0 (Or.inl (by have := mm_bs_ge hf; omega))) hcell (mm_cell_set hk hf hj hv h1 h2 h3) (mm_cell_fld h1 h2 h3 h4 h5 h6) ⟨_, hc, t_OB.to (V := updV (vp_V (mm_fs P a (mm_bs k) l)) j v) ⟨_, e1, q2, q3, t_set q4 hap hjN v⟩ (fun z _ => vp_updV_set hlen v z)⟩ e3, by rw [e2]; exact hsz, hn1, hs1, hS.put e2 e3 hwr, hc1, hc2⟩
  rcases hlk with hlk | ⟨host, hlk⟩ | ⟨r2, hlk, hsf⟩
  · exact W.putK C.x C.b (f := fd) ⟨C.ow, C.ts _ hlk, ⟨_, _, _, hi⟩, hst⟩ (by rw [q2]; exact hq) q1 q3 (by rw [hsl]; exact k2_hasslot (q4 j hjN)) rfl rfl dd fin
  · exact va_WputK C.x C.b (f := fd) C.ow (va_Nw.use rfl (C.nw _ hlk)) hi hst (by rw [q2]; exact hq) q1 q3 (by rw [hsl]; exact k2_hasslot (q4 j hjN)) rfl rfl dd fin
  · exact W.putK C.x C.b (f := fd) ⟨C.ow, C.ts _ hlk, ⟨_, _, _, u_same (C.ts _ hsf) _ hi⟩, hst⟩ (by rw [q2]; exact hq) q1 q3 (by rw [hsl]; exact k2_hasslot (q4 j hjN)) rfl rfl dd fin
theorem r_putI (C : mm_Cx E own cc nL ret FR LC) {index k j a code : Nat} {x : Int32} (fl : mm_FL own index k j mm_i .int false) (hk : K.1 a = k) (hro : mm_ro k = false) (hc : mm_bs k + j = code) (dd : decode cc pc = .ok (.putfield index, 3)) (kk : mm_V E w (pc + 3) ls st K (sI P code a x) nx sl f) : mm_V E w pc ls (.int x :: .ref a :: st) K P nx sl f := by
  subst hc
  refine mm_putV C fl hk hro (P' := sI P (mm_bs k + j) a x) ?_ ?_ (fun _ _ _ => rfl) (fun _ _ _ => rfl) rfl rfl rfl rfl rfl dd kk
  · show Value.int (if _ ∧ _ then x else _) = _
    rw [if_pos ⟨rfl, rfl⟩]
  · intro y z h
    show (if _ ∧ _ then x else _) = _
    rw [if_neg (by omega)]
    rfl
theorem r_putJ (C : mm_Cx E own cc nL ret FR LC) {index k j a code : Nat} {x : Int64} (fl : mm_FL own index k j mm_j .long false) (hk : K.1 a = k) (hro : mm_ro k = false) (hc : mm_bs k + j = code) (dd : decode cc pc = .ok (.putfield index, 3)) (kk : mm_V E w (pc + 3) ls st K (sJ P code a x) nx sl f) : mm_V E w pc ls (.long x :: .ref a :: st) K P nx sl f := by
  subst hc
  refine mm_putV C fl hk hro (P' := sJ P (mm_bs k + j) a x) ?_ (fun _ _ _ => rfl) (fun _ _ _ => rfl) ?_ rfl rfl rfl rfl rfl dd kk
  · show Value.long (if _ ∧ _ then x else _) = _
    rw [if_pos ⟨rfl, rfl⟩]
  · intro y z h
    show (if _ ∧ _ then x else _) = _
    rw [if_neg (by omega)]
    rfl
theorem r_putR (C : mm_Cx E own cc nL ret FR LC) {index k j a code : Nat} {ty : FieldType} {v : Value} {x : Option Nat} (fl : mm_FL own index k j mm_r ty false) (hk : K.1 a = k) (hro : mm_ro k = false) (hc : mm_bs k + j = code) (hv : va_rf x = v) (hn : ∀ x, narrow ty (va_rf x) = va_rf x) (hfit : ∀ x, fits ty (va_rf x) = true) (dd : decode cc pc = .ok (.putfield index, 3)) (kk : mm_V E w (pc + 3) ls st K (sR P code a x) nx sl f) : mm_V E w pc ls (v :: .ref a :: st) K P nx sl f := by
  subst hc
  subst hv
  refine mm_putV C fl hk hro (P' := sR P (mm_bs k + j) a x) ?_ (fun _ _ _ => rfl) ?_ (fun _ _ _ => rfl) rfl rfl rfl (hn x) (hfit x) dd kk
  · show va_rf (if _ ∧ _ then x else _) = _
    rw [if_pos ⟨rfl, rfl⟩]
  · intro y z h
    show (if _ ∧ _ then x else _) = _
    rw [if_neg (by omega)]
    rfl
theorem r_iald (C : mm_Cx E own cc nL ret FR LC) {r a off n adr : Nat} {i : Int32} (hr : mm_reg K r a off 0 n) (hadr : a + off = adr) (dd : decode cc pc = .ok (.iaload, 1)) (kk : mm_in i n → mm_V E w (pc + 1) ls (.int (gA P r a i.toNatClampNeg) :: st) K P nx sl f) : mm_V E w pc ls (.int i :: .ref adr :: st) K P nx sl (mm_gd (mm_in i n) f) := by
  subst hadr
  refine r_gd fun hin => ?_
  intro out ho H locs la h
  obtain ⟨cell, g1, g2, g3, g4⟩ := h.2.1.lo C.kk hr
  have hsz : cell.slots.size = n := by rw [g4]; exact arrV_size _ _ _
  have hlt : i.toNatClampNeg < n := Nat.not_le.mp fun q => hin (Or.inr q)
  exact W.iald (v := .int (gA P r a i.toNatClampNeg)) C.x C.b g1 g2 g3 (by rw [hsz]; exact hin) (by rw [g4]; exact arrV_read ((eF E).1 0) (fun j => Value.int (gA P r a j)) hlt) rfl rfl dd (kk hin out ho H locs la h)
theorem r_bald (C : mm_Cx E own cc nL ret FR LC) {r a off n adr : Nat} {i : Int32} (hr : mm_reg K r a off 1 n) (hadr : a + off = adr) (dd : decode cc pc = .ok (.baload, 1)) (kk : mm_in i n → mm_V E w (pc + 1) ls (.int (gA P r a i.toNatClampNeg) :: st) K P nx sl f) : mm_V E w pc ls (.int i :: .ref adr :: st) K P nx sl (mm_gd (mm_in i n) f) := by
  subst hadr
  refine r_gd fun hin => ?_
  intro out ho H locs la h
  obtain ⟨cell, g1, g2, g3, g4⟩ := h.2.1.lo C.kk hr
  have hsz : cell.slots.size = n := by rw [g4]; exact arrV_size _ _ _
  have hlt : i.toNatClampNeg < n := Nat.not_le.mp fun q => hin (Or.inr q)
  exact W.bald (v := .int (gA P r a i.toNatClampNeg)) C.x C.b g1 g2 g3 (by rw [hsz]; exact hin) (by rw [g4]; exact arrV_read ((eF E).1 1) (fun j => Value.int (gA P r a j)) hlt) rfl rfl dd (kk hin out ho H locs la h)
theorem r_lald (C : mm_Cx E own cc nL ret FR LC) {r a off n adr : Nat} {i : Int32} (hr : mm_reg K r a off 2 n) (hadr : a + off = adr) (dd : decode cc pc = .ok (.laload, 1)) (kk : mm_in i n → mm_V E w (pc + 1) ls (.long (gL P r a i.toNatClampNeg) :: st) K P nx sl f) : mm_V E w pc ls (.int i :: .ref adr :: st) K P nx sl (mm_gd (mm_in i n) f) := by
  subst hadr
  refine r_gd fun hin => ?_
  intro out ho H locs la h
  exact va_lald C.x C.b C.k (mm_P1 (h.2.1.at (mm_cell_arr (cA := (eF E).1) (P := P) hr) (mm_xt_reg hr (by decide)))) 0 2 rfl rfl hin dd (kk hin out ho H locs la h)
theorem r_zald (C : mm_Cx E own cc nL ret FR LC) {r a off n adr : Nat} {i : Int32} (hr : mm_reg K r a off 3 n) (hadr : a + off = adr) (dd : decode cc pc = .ok (.baload, 1)) (kk : mm_in i n → mm_V E w (pc + 1) ls (.int (gA P r a i.toNatClampNeg) :: st) K P nx sl f) : mm_V E w pc ls (.int i :: .ref adr :: st) K P nx sl (mm_gd (mm_in i n) f) := by
  subst hadr
  refine r_gd fun hin => ?_
  intro out ho H locs la h
  exact va_zald C.x C.b C.k (mm_P1 (h.2.1.at (mm_cell_arr (cA := (eF E).1) (P := P) hr) (mm_xt_reg hr (by decide)))) 0 3 rfl rfl hin dd (kk hin out ho H locs la h)
theorem r_aaldOo (C : mm_Cx E own cc nL ret FR LC) {r a off n adr : Nat} {i : Int32} (hr : mm_reg K r a off 4 n) (hadr : a + off = adr) (dd : decode cc pc = .ok (.aaload, 1)) (kk : mm_in i n → mm_V E w (pc + 1) ls (va_rf (gB P r a i.toNatClampNeg) :: st) K P nx sl f) : mm_V E w pc ls (.int i :: .ref adr :: st) K P nx sl (mm_gd (mm_in i n) f) := by
  subst hadr
  refine r_gd fun hin => ?_
  intro out ho H locs la h
  exact va_aldq C.x C.b C.k (mm_P1 (h.2.1.at (mm_cell_arr (cA := (eF E).1) (P := P) hr) (mm_xt_reg hr (by decide)))) 0 4 rfl rfl hin dd (kk hin out ho H locs la h)
theorem r_aaldOn (C : mm_Cx E own cc nL ret FR LC) {r a off n adr : Nat} {i : Int32} {g : Nat → Option α} (hr : mm_reg K r a off 4 n) (hadr : a + off = adr) (dd : decode cc pc = .ok (.aaload, 1)) (kk : mm_in i n → ∀ b, gB P r a i.toNatClampNeg = some b → mm_V E w (pc + 1) ls (.ref b :: st) K P nx sl (g b)) : mm_V E w pc ls (.int i :: .ref adr :: st) K P nx sl (mm_gd (mm_in i n) (mm_bd (gB P r a i.toNatClampNeg) g)) := by
  refine r_aaldOo C hr hadr dd fun hin => r_bd fun b hb => ?_
  have := kk hin b hb
  rw [hb]
  exact this
theorem r_aaldSo (C : mm_Cx E own cc nL ret FR LC) {r a off n adr : Nat} {i : Int32} (hr : mm_reg K r a off 5 n) (hadr : a + off = adr) (dd : decode cc pc = .ok (.aaload, 1)) (kk : mm_in i n → mm_V E w (pc + 1) ls (va_rf (gB P r a i.toNatClampNeg) :: st) K P nx sl f) : mm_V E w pc ls (.int i :: .ref adr :: st) K P nx sl (mm_gd (mm_in i n) f) := by
  subst hadr
  refine r_gd fun hin => ?_
  intro out ho H locs la h
  exact va_aldq C.x C.b C.k (mm_P1 (h.2.1.at (mm_cell_arr (cA := (eF E).1) (P := P) hr) (mm_xt_reg hr (by decide)))) 0 5 rfl rfl hin dd (kk hin out ho H locs la h)
theorem r_aaldSn (C : mm_Cx E own cc nL ret FR LC) {r a off n adr : Nat} {i : Int32} {g : Nat → Option α} (hr : mm_reg K r a off 5 n) (hadr : a + off = adr) (dd : decode cc pc = .ok (.aaload, 1)) (kk : mm_in i n → ∀ b, gB P r a i.toNatClampNeg = some b → mm_V E w (pc + 1) ls (.ref b :: st) K P nx sl (g b)) : mm_V E w pc ls (.int i :: .ref adr :: st) K P nx sl (mm_gd (mm_in i n) (mm_bd (gB P r a i.toNatClampNeg) g)) := by
  refine r_aaldSo C hr hadr dd fun hin => r_bd fun b hb => ?_
  have := kk hin b hb
  rw [hb]
  exact this
theorem r_aaldMo (C : mm_Cx E own cc nL ret FR LC) {r a off n adr : Nat} {i : Int32} (hr : mm_reg K r a off 6 n) (hadr : a + off = adr) (dd : decode cc pc = .ok (.aaload, 1)) (kk : mm_in i n → mm_V E w (pc + 1) ls (va_rf (gB P r a i.toNatClampNeg) :: st) K P nx sl f) : mm_V E w pc ls (.int i :: .ref adr :: st) K P nx sl (mm_gd (mm_in i n) f) := by
  subst hadr
  refine r_gd fun hin => ?_
  intro out ho H locs la h
  exact va_aldq C.x C.b C.k (mm_P1 (h.2.1.at (mm_cell_arr (cA := (eF E).1) (P := P) hr) (mm_xt_reg hr (by decide)))) 0 6 rfl rfl hin dd (kk hin out ho H locs la h)
theorem r_aaldMn (C : mm_Cx E own cc nL ret FR LC) {r a off n adr : Nat} {i : Int32} {g : Nat → Option α} (hr : mm_reg K r a off 6 n) (hadr : a + off = adr) (dd : decode cc pc = .ok (.aaload, 1)) (kk : mm_in i n → ∀ b, gB P r a i.toNatClampNeg = some b → mm_V E w (pc + 1) ls (.ref b :: st) K P nx sl (g b)) : mm_V E w pc ls (.int i :: .ref adr :: st) K P nx sl (mm_gd (mm_in i n) (mm_bd (gB P r a i.toNatClampNeg) g)) := by
  refine r_aaldMo C hr hadr dd fun hin => r_bd fun b hb => ?_
  have := kk hin b hb
  rw [hb]
  exact this
theorem r_alen (C : mm_Cx E own cc nL ret FR LC) {r a off ek n adr : Nat} {v : Int32} (hr : mm_reg K r a off ek n) (hadr : a + off = adr) (hv : Int32.ofNat n = v) (dd : decode cc pc = .ok (.arraylength, 1)) (kk : mm_V E w (pc + 1) ls (.int v :: st) K P nx sl f) : mm_V E w pc ls (.ref adr :: st) K P nx sl f := by
  subst hadr
  intro out ho H locs la h
  obtain ⟨cell, g1, g2, g3, g4⟩ := h.2.1.lo C.kk hr
  have hsz : cell.slots.size = n := by
    rw [g4]
    unfold mm_ac
    split
    · exact arrV_size _ _ _
    · split
      · exact arrV_size _ _ _
      · exact arrV_size _ _ _
  exact W.alen (n := v) C.x C.b g1 g2 (by rw [hsz]; exact hv) rfl rfl dd (kk out ho H locs la h)
theorem r_iast (C : mm_Cx E own cc nL ret FR LC) {r a off n adr : Nat} {i : Int32} {x : Int32} (hr : mm_reg K r a off 0 n) (hro : mm_ro (K.1 a) = false) (hadr : a + off = adr) (dd : decode cc pc = .ok (.iastore, 1)) (kk : mm_in i n → mm_V E w (pc + 1) ls st K (sA P r a i.toNatClampNeg x) nx sl f) : mm_V E w pc ls (.int x :: .int i :: .ref adr :: st) K P nx sl (mm_gd (mm_in i n) f) := by
  subst hadr
  refine r_gd fun hin => ?_
  intro out ho H locs la h
  obtain ⟨hls, hW, hsz, hn1, hs1, hS, hc1, hc2⟩ := h
  have hcell := mm_cell_arr (cA := (eF E).1) (P := P) hr
  have hat := hW.at hcell (mm_xt_ro hro)
  have hoth : ∀ y z, (y ≠ r ∨ z ≠ a) → gA (sA P r a i.toNatClampNeg x) y z = gA P y z := by
    intro y z hyz
    funext q
    show (if _ ∧ _ ∧ _ then _ else _) = _
    rw [if_neg (by omega)]
    rfl
  refine W.iast C.x C.b hat ((C.k.2 0 _ rfl).1 n (fun j => .int (gA P r a j))) (fun q => by cases q) (by show ¬ (i < 0 ∨ (arrV _ _ _).slots.size ≤ _); rw [arrV_size]; exact hin) rfl rfl dd fun H1 e z oq => ?_
  refine kk hin out ho H1 _ la ⟨hls, hW.put (fun _ _ => rfl) hcell (mm_cell_arr hr) (mm_cell_ast hr rfl rfl rfl hoth (fun _ _ _ => rfl) (fun _ _ _ => rfl)) ?_ oq (mm_xt_ro hro), by rw [z]; exact hsz, hn1, hs1, hS.put z oq (hW.wr hcell hro), hc1, hc2⟩
  show H1[a + off]? = some (vp_cell ((eF E).1 0) (n, _))
  rw [e]
  show some (Cell.setSlot (vp_cell ((eF E).1 0) (n, .inl (gA P r a))) _ _) = some (vp_cell ((eF E).1 0) (n, .inl (gA (sA P r a i.toNatClampNeg x) r a)))
  rw [vp_cell_i, vp_cell_i, arrV_store]
  congr 2
  funext q
  by_cases hq : q = i.toNatClampNeg
  · subst hq
    show updV _ _ _ _ = .int (if _ ∧ _ ∧ _ then _ else _)
    rw [if_pos ⟨rfl, rfl, rfl⟩]
    simp [updV]
    try rfl
  · show updV _ _ _ _ = .int (if _ ∧ _ ∧ _ then _ else _)
    rw [if_neg (fun z => hq z.2.2)]
    simp [updV, hq]
    try rfl
theorem r_bast (C : mm_Cx E own cc nL ret FR LC) {r a off n adr : Nat} {i : Int32} {x : Int32} (hr : mm_reg K r a off 1 n) (hro : mm_ro (K.1 a) = false) (hadr : a + off = adr) (dd : decode cc pc = .ok (.bastore, 1)) (kk : mm_in i n → mm_V E w (pc + 1) ls st K (sA P r a i.toNatClampNeg x.toInt8.toInt32) nx sl f) : mm_V E w pc ls (.int x :: .int i :: .ref adr :: st) K P nx sl (mm_gd (mm_in i n) f) := by
  subst hadr
  refine r_gd fun hin => ?_
  intro out ho H locs la h
  obtain ⟨hls, hW, hsz, hn1, hs1, hS, hc1, hc2⟩ := h
  have hcell := mm_cell_arr (cA := (eF E).1) (P := P) hr
  have hat := hW.at hcell (mm_xt_ro hro)
  have hoth : ∀ y z, (y ≠ r ∨ z ≠ a) → gA (sA P r a i.toNatClampNeg x.toInt8.toInt32) y z = gA P y z := by
    intro y z hyz
    funext q
    show (if _ ∧ _ ∧ _ then _ else _) = _
    rw [if_neg (by omega)]
    rfl
  refine W.bast C.x C.b hat ((C.k.2 1 _ rfl).1 n (fun j => .int (gA P r a j))) (fun q => by cases q) (by show ¬ (i < 0 ∨ (arrV _ _ _).slots.size ≤ _); rw [arrV_size]; exact hin) rfl rfl dd fun H1 e z oq => ?_
  refine kk hin out ho H1 _ la ⟨hls, hW.put (fun _ _ => rfl) hcell (mm_cell_arr hr) (mm_cell_ast hr rfl rfl rfl hoth (fun _ _ _ => rfl) (fun _ _ _ => rfl)) ?_ oq (mm_xt_ro hro), by rw [z]; exact hsz, hn1, hs1, hS.put z oq (hW.wr hcell hro), hc1, hc2⟩
  show H1[a + off]? = some (vp_cell ((eF E).1 1) (n, _))
  rw [e]
  show some (Cell.setSlot (vp_cell ((eF E).1 1) (n, .inl (gA P r a))) _ _) = some (vp_cell ((eF E).1 1) (n, .inl (gA (sA P r a i.toNatClampNeg x.toInt8.toInt32) r a)))
  rw [vp_cell_i, vp_cell_i, arrV_store]
  congr 2
  funext q
  by_cases hq : q = i.toNatClampNeg
  · subst hq
    show updV _ _ _ _ = .int (if _ ∧ _ ∧ _ then _ else _)
    rw [if_pos ⟨rfl, rfl, rfl⟩]
    simp [updV]
    try rfl
  · show updV _ _ _ _ = .int (if _ ∧ _ ∧ _ then _ else _)
    rw [if_neg (fun z => hq z.2.2)]
    simp [updV, hq]
    try rfl
theorem r_zast (C : mm_Cx E own cc nL ret FR LC) {r a off n adr : Nat} {i : Int32} {x : Int32} (hr : mm_reg K r a off 3 n) (hro : mm_ro (K.1 a) = false) (hadr : a + off = adr) (dd : decode cc pc = .ok (.bastore, 1)) (kk : mm_in i n → mm_V E w (pc + 1) ls st K (sA P r a i.toNatClampNeg (x &&& 1)) nx sl f) : mm_V E w pc ls (.int x :: .int i :: .ref adr :: st) K P nx sl (mm_gd (mm_in i n) f) := by
  subst hadr
  refine r_gd fun hin => ?_
  intro out ho H locs la h
  obtain ⟨hls, hW, hsz, hn1, hs1, hS, hc1, hc2⟩ := h
  have hcell := mm_cell_arr (cA := (eF E).1) (P := P) hr
  have hat := hW.at hcell (mm_xt_ro hro)
  have hoth : ∀ y z, (y ≠ r ∨ z ≠ a) → gA (sA P r a i.toNatClampNeg (x &&& 1)) y z = gA P y z := by
    intro y z hyz
    funext q
    show (if _ ∧ _ ∧ _ then _ else _) = _
    rw [if_neg (by omega)]
    rfl
  refine W.zast C.x C.b hat ((C.k.2 3 _ rfl).1 n (fun j => .int (gA P r a j))) (fun q => by cases q) (by show ¬ (i < 0 ∨ (arrV _ _ _).slots.size ≤ _); rw [arrV_size]; exact hin) rfl rfl dd fun H1 e z oq => ?_
  refine kk hin out ho H1 _ la ⟨hls, hW.put (fun _ _ => rfl) hcell (mm_cell_arr hr) (mm_cell_ast hr rfl rfl rfl hoth (fun _ _ _ => rfl) (fun _ _ _ => rfl)) ?_ oq (mm_xt_ro hro), by rw [z]; exact hsz, hn1, hs1, hS.put z oq (hW.wr hcell hro), hc1, hc2⟩
  show H1[a + off]? = some (vp_cell ((eF E).1 3) (n, _))
  rw [e]
  show some (Cell.setSlot (vp_cell ((eF E).1 3) (n, .inl (gA P r a))) _ _) = some (vp_cell ((eF E).1 3) (n, .inl (gA (sA P r a i.toNatClampNeg (x &&& 1)) r a)))
  rw [vp_cell_i, vp_cell_i, arrV_store]
  congr 2
  funext q
  by_cases hq : q = i.toNatClampNeg
  · subst hq
    show updV _ _ _ _ = .int (if _ ∧ _ ∧ _ then _ else _)
    rw [if_pos ⟨rfl, rfl, rfl⟩]
    simp [updV]
    try rfl
  · show updV _ _ _ _ = .int (if _ ∧ _ ∧ _ then _ else _)
    rw [if_neg (fun z => hq z.2.2)]
    simp [updV, hq]
    try rfl
theorem r_last (C : mm_Cx E own cc nL ret FR LC) {r a off n adr : Nat} {i : Int32} {x : Int64} (hr : mm_reg K r a off 2 n) (hro : mm_ro (K.1 a) = false) (hadr : a + off = adr) (dd : decode cc pc = .ok (.lastore, 1)) (kk : mm_in i n → mm_V E w (pc + 1) ls st K (sL P r a i.toNatClampNeg x) nx sl f) : mm_V E w pc ls (.long x :: .int i :: .ref adr :: st) K P nx sl (mm_gd (mm_in i n) f) := by
  subst hadr
  refine r_gd fun hin => ?_
  intro out ho H locs la h
  obtain ⟨hls, hW, hsz, hn1, hs1, hS, hc1, hc2⟩ := h
  have hcell := mm_cell_arr (cA := (eF E).1) (P := P) hr
  have hat := hW.at hcell (mm_xt_ro hro)
  have hoth : ∀ y z, (y ≠ r ∨ z ≠ a) → gL (sL P r a i.toNatClampNeg x) y z = gL P y z := by
    intro y z hyz
    funext q
    show (if _ ∧ _ ∧ _ then _ else _) = _
    rw [if_neg (by omega)]
    rfl
  refine W.last C.x C.b hat ((C.k.2 2 _ rfl).1 n (fun j => .long (gL P r a j))) (fun q => by cases q) (by show ¬ (i < 0 ∨ (arrV _ _ _).slots.size ≤ _); rw [arrV_size]; exact hin) rfl rfl dd fun H1 e z oq => ?_
  refine kk hin out ho H1 _ la ⟨hls, hW.put (fun _ _ => rfl) hcell (mm_cell_arr hr) (mm_cell_ast hr rfl rfl rfl (fun _ _ _ => rfl) (fun _ _ _ => rfl) hoth) ?_ oq (mm_xt_ro hro), by rw [z]; exact hsz, hn1, hs1, hS.put z oq (hW.wr hcell hro), hc1, hc2⟩
  show H1[a + off]? = some (vp_cell ((eF E).1 2) (n, _))
  rw [e]
  show some (Cell.setSlot (vp_cell ((eF E).1 2) (n, .inr (.inl (gL P r a)))) _ _) = some (vp_cell ((eF E).1 2) (n, .inr (.inl (gL (sL P r a i.toNatClampNeg x) r a))))
  rw [vp_cell_l, vp_cell_l, arrV_store]
  congr 2
  funext q
  by_cases hq : q = i.toNatClampNeg
  · subst hq
    show updV _ _ _ _ = .long (if _ ∧ _ ∧ _ then _ else _)
    rw [if_pos ⟨rfl, rfl, rfl⟩]
    simp [updV]
    try rfl
  · show updV _ _ _ _ = .long (if _ ∧ _ ∧ _ then _ else _)
    rw [if_neg (fun z => hq z.2.2)]
    simp [updV, hq]
    try rfl
theorem r_iret (C : mm_Cx E own cc nL (some .int) FR LC) {x : Int32} {o : α} (dd : decode cc pc = .ok (.ireturn, 1)) (hw : w o = (some (.int x), K, P, nx, sl)) : mm_V E w pc ls [.int x] K P nx sl (some o) := by
  intro out ho H locs la h
  cases ho
  rw [hw] at h ⊢
  exact W.iret C.x C.b C.rt (fun t ht hW => ⟨rfl, by rw [ht]; exact h.2.1, by rw [ht]; exact h.2.2.1, h.2.2.2.2.2.1.F ht⟩) h.2.2.2.2.2.1.2.2 dd C.lk
theorem r_lret (C : mm_Cx E own cc nL (some .long) FR LC) {x : Int64} {o : α} (dd : decode cc pc = .ok (.lreturn, 1)) (hw : w o = (some (.long x), K, P, nx, sl)) : mm_V E w pc ls [.long x] K P nx sl (some o) := by
  intro out ho H locs la h
  cases ho
  rw [hw] at h ⊢
  exact W.lret C.x C.b C.rt (fun t ht hW => ⟨rfl, by rw [ht]; exact h.2.1, by rw [ht]; exact h.2.2.1, h.2.2.2.2.2.1.F ht⟩) h.2.2.2.2.2.1.2.2 dd C.lk
theorem r_zret {ty : FieldType} (C : mm_Cx E own cc nL (some ty) FR LC) {x : Int32} {o : α} (dd : decode cc pc = .ok (.ireturn, 1)) (hn : narrow ty (.int x) = .int x) (hw : w o = (some (.int x), K, P, nx, sl)) : mm_V E w pc ls [.int x] K P nx sl (some o) := by
  intro out ho H locs la h
  cases ho
  rw [hw] at h ⊢
  exact W.zret C.x C.b C.rt hn (fun t ht hW => ⟨rfl, by rw [ht]; exact h.2.1, by rw [ht]; exact h.2.2.1, h.2.2.2.2.2.1.F ht⟩) h.2.2.2.2.2.1.2.2 dd C.lk
theorem r_vret (C : mm_Cx E own cc nL none FR LC) {o : α} (dd : decode cc pc = .ok (.return_, 1)) (hw : w o = (none, K, P, nx, sl)) : mm_V E w pc ls [] K P nx sl (some o) := by
  intro out ho H locs la h
  cases ho
  rw [hw] at h ⊢
  exact W.vret C.x C.b C.rt (fun t ht hW => ⟨rfl, by rw [ht]; exact h.2.1, by rw [ht]; exact h.2.2.1, h.2.2.2.2.2.1.F ht⟩) h.2.2.2.2.2.1.2.2 dd C.lk
theorem r_aret {rt : FieldType} (C : mm_Cx E own cc nL (some rt) FR LC) {x : Option Nat} {v : Value} {o : α} (hrt : (∃ n, rt = .object n) ∨ ∃ t, rt = .array t) (hv : va_rf x = v) (dd : decode cc pc = .ok (.areturn, 1)) (hw : w o = (some v, K, P, nx, sl)) : mm_V E w pc ls [v] K P nx sl (some o) := by
  subst hv
  intro out ho H locs la h
  cases ho
  rw [hw] at h ⊢
  have hn : mm_thr (some (va_rf x), K, P, nx, sl) = none := by cases x <;> rfl
  unfold mm_T
  rw [mm_Q_n hn]
  exact W.aret C.x C.b C.rt hrt (va_rf_or x) (fun t ht hW => ⟨rfl, by rw [ht]; exact h.2.1, by rw [ht]; exact h.2.2.1, h.2.2.2.2.2.1.F ht⟩) h.2.2.2.2.2.1.2.2 dd C.lk
end MEM
/-! contracts -/
def mm_Pc (D : va_G) (cA : mm_G) (A0 : Nat → Prop) (K : mm_K) (P : mm_P) (nx : Nat) : State → Prop := fun U => U.heap.size = nx ∧ mm_W D cA A0 K P U.heap ∧ mm_KK D cA U ∧ (∀ q : Nat, nx ≤ q → A0 q) ∧ (∀ w ∈ nw_all, va_Nw w U) ∧ mm_ZS cA.2.1 A0 U ∧ mm_AO cA.2.1 U
/-- method y, called with argv in the memory (K, P), the heap of size nx: leaves o -/
def mm_C (l : Launch) (y : MethodName) (ws : List Cond) (fr lc : Nat) (argv : List Value) (K : mm_K) (P : mm_P) (nx sl : Nat) (o : mm_O) : Prop :=
  nx ≤ oN o ∧ sl ≤ oS o ∧ ∀ (D : va_G) (cA : mm_G) (A0 : Nat → Prop), Met l y ws ({ frames := fr, cells := oN o - nx, slots := oS o - sl, locals := lc } : Room) (va_Pc argv (mm_Pc D cA A0 K P nx)) (mm_Qc D cA A0 o) (oN o - nx) (oS o - sl) A0
theorem mm_ZS_kept {z : Nat → Option Nat} {A : Nat → Prop} {u U : State} (hvm : u.vm.Alike U.vm) (hq : ∀ a : Nat, a < u.heap.size → ¬ A a → U.heap[a]? = u.heap[a]?) (h : mm_ZS z A u) : mm_ZS z A U :=
  ⟨va_Z.moved hvm (h.1.kept hq), va_Z.moved hvm (h.2.1.kept hq), va_Z.moved hvm (h.2.2.1.kept hq), va_Z.moved hvm (h.2.2.2.1.kept hq), va_Z.moved hvm (h.2.2.2.2.1.kept hq), va_Z.moved hvm (h.2.2.2.2.2.1.kept hq), vx_L.moved hvm (h.2.2.2.2.2.2.1.kept hq), vx_L.moved hvm (h.2.2.2.2.2.2.2.kept hq)⟩
theorem mm_ZS_moved {z : Nat → Option Nat} {A : Nat → Prop} {u U : State} (hvm : u.vm.Alike U.vm) (hh : U.heap = u.heap) (h : mm_ZS z A u) : mm_ZS z A U := mm_ZS_kept hvm (fun a _ _ => by rw [hh]) h
theorem mm_AO_same {z : Nat → Option Nat} {u U : State} (hv : U.vm = u.vm) (h : mm_AO z u) : mm_AO z U := by
  have hvm : u.vm.Alike U.vm := by rw [hv]; exact Vm.Alike.refl u.vm
  obtain ⟨h1, h2, h3, ⟨mi, h4, h5⟩, h6⟩ := h
  refine ⟨h1.moved hvm, h2.moved hvm, h3.moved hvm, ⟨mi, h4, va_Mi.moved hvm h5⟩, fun q hq => ?_⟩
  obtain ⟨a, g1, g2⟩ := h6 q hq
  exact ⟨a, g1, vk_R.same hv g2⟩
theorem mm_AO_warm {z : Nat → Option Nat} {s U : State} (hW : s.WarmedH U.vm) (h : mm_AO z s) : mm_AO z U := by
  obtain ⟨h1, h2, h3, ⟨mi, h4, h5⟩, h6⟩ := h
  refine ⟨h1.moved hW.alike, h2.moved hW.alike, h3.moved hW.alike, ⟨mi, h4, va_Mi.moved hW.alike h5⟩, fun q hq => ?_⟩
  obtain ⟨a, g1, g2⟩ := h6 q hq
  exact ⟨a, g1, vk_R.warm hW g2⟩
theorem mm_blind {D : va_G} {cA : mm_G} {A0 : Nat → Prop} {K : mm_K} {P : mm_P} {nx : Nat} {argv : List Value} : FrameBlind (va_Pc argv (mm_Pc D cA A0 K P nx)) := by
  intro a U g mk h
  obtain ⟨h1, h2, h3, h4, h5, h6, h7, h8⟩ := h
  exact ⟨h1, h2, h3, mm_KK.moved (u := U) (U := U.calling g mk a) (Vm.Alike.refl U.vm) h4, h5, fun w hw => va_Nw.same (u := U) (U := U.calling g mk a) (nw_ot (List.mem_filter.mp hw).2) rfl (h6 w hw), mm_ZS_moved (u := U) (U := U.calling g mk a) (Vm.Alike.refl U.vm) rfl h7, mm_AO_same (u := U) (U := U.calling g mk a) rfl h8⟩
def mm_look (i : Nat) : List (Nat × Value) → Option Value
  | [] => none
  | (j, v) :: l => if j = i then some v else mm_look i l
def mm_of : Nat → Nat → List (Nat × Value) → List (Option Value)
  | _, 0, _ => []
  | i, n + 1, l => mm_look i l :: mm_of (i + 1) n l
theorem mm_look_mem {i : Nat} {v : Value} : ∀ (l : List (Nat × Value)), mm_look i l = some v → (i, v) ∈ l := by
  intro l
  induction l with
  | nil => intro h; cases h
  | cons q l ih =>
    intro h
    obtain ⟨j, x⟩ := q
    unfold mm_look at h
    by_cases hj : j = i
    · rw [if_pos hj] at h
      cases h
      subst hj
      exact List.mem_cons_self
    · rw [if_neg hj] at h
      exact List.mem_cons_of_mem _ (ih h)
theorem mm_of_at {l : List (Nat × Value)} {v : Value} : ∀ (n i0 i : Nat), (mm_of i0 n l)[i]? = some (some v) → (i0 + i, v) ∈ l := by
  intro n
  induction n with
  | zero => intro i0 i h; simp [mm_of] at h
  | succ n ih =>
    intro i0 i h
    cases i with
    | zero =>
      have h1 : mm_look i0 l = some v := by simpa [mm_of] using h
      exact mm_look_mem l h1
    | succ i =>
      have h1 := ih (i0 + 1) i (by simpa [mm_of] using h)
      rw [show i0 + (i + 1) = i0 + 1 + i by omega]
      exact h1
theorem mm_start {l : Launch} {y : MethodName} {cc : ByteArray} {maxL fr lc : Nat} {ret : Option FieldType} {argv : List Value} {K : mm_K} {P : mm_P} {nx sl : Nat} {α : Type} {w : α → mm_O} {x : Option α} {out : α} {ls : List (Option Value)} (hx : x = some out) (hy : plainName y.cls = true) (hlen : (lg_sl argv).length ≤ maxL) (hls : mm_of 0 maxL (lv_args 0 argv) = ls) (hn : nx ≤ oN (w out)) (hs : sl ≤ oS (w out)) (hq : mm_thr (w out) = none)
    (body : ∀ E : mm_E, eL E = l → eN E = nx → eO E = sl → (y.name = "<init>" → (eT E).name = "<init>") → mm_Cx E y.cls cc maxL ret fr lc → mm_V E w 0 ls [] K P nx sl x) : mm_C l y (ws_ y cc maxL ret) fr lc argv K P nx sl (w out) := by
  refine ⟨hn, hs, fun D cA A0 => ?_⟩
  refine Met.ofW (cc := cc) (maxL := maxL) (ret := ret) hy rfl ?_
  intro p e s m args below meth c s₁ B hml hv
  obtain ⟨rfl, hsz, hW, hK, hA, hN, hZ, hO⟩ := hv
  have hts0 := atoms_spec (ws := ws_ y cc maxL ret) B.pre
  have hts : ∀ w ∈ lw_all, w.before _ s = true := fun w h => hts0 w (List.mem_cons_of_mem _ h)
  have hown : s.vm.findClass y.cls = some m.cls := findClass_of_methodNamed B.named
  have hl := lv_entry argv (n := maxL) hlen
  rw [lg_entry_eq]
  generalize (lg_sl argv ++ List.replicate (maxL - (lg_sl argv).length) Slot.unset).toArray = la at hl ⊢
  have h0 := body (p, l, e, ({ frames := fr, cells := oN (w out) - nx, slots := oS (w out) - sl, locals := lc } : Room), s, m, argv.toArray, below, meth, c, D, cA, A0, nx, sl) rfl rfl rfl (fun h => by rw [← h]; exact (name_of_methodNamed B.named B.method).1)
    ⟨B.exec, B.bytes, hml, hown, hts, hK, fun q hq => hA q (by rw [← hsz]; exact hq), B.notSynchronized, rfl, rfl, hN, B.returns, hsz, hZ, hO⟩ out hx s.heap [] la
    ⟨⟨hl.1.trans hml.symm, hl.2.1, fun i v hi => by rw [← hls] at hi; have := mm_of_at _ _ _ hi; rw [Nat.zero_add] at this; exact hl.2.2 (i, v) this⟩, hW, hsz, ⟨Nat.le_refl _, hn⟩, ⟨Nat.le_refl _, hs⟩, va_S.rf, Nat.le_refl _, Nat.le_refl _⟩
  have e1 : nx - nx = 0 := Nat.sub_self _
  have e2 : sl - sl = 0 := Nat.sub_self _
  unfold mm_T at h0
  rw [mm_Q_n hq] at h0
  dsimp only [eP, eL, eE, eR, eS, eM, eV, eB, eT, eC, eN, eO] at h0
  rw [e1, e2] at h0
  exact h0
section CALL
variable {α : Type} {E : mm_E} {own : String} {cc : ByteArray} {nL : Nat} {ret : Option FieldType} {FR LC : Nat} {w : α → mm_O} {pc : Nat} {ls : List (Option Value)} {st st0 : List Value} {K : mm_K} {P : mm_P} {nx sl : Nat} {f : Option α}
theorem mm_after (C : mm_Cx E own cc nL ret FR LC) {o : mm_O} {a : Array Value} {out : α} {H : Heap} {locs : List Loc} {la : Array Slot} (hr : va_Run (eP E) (eL E) (eE E) (eR E) (eS E) (eM E) (eV E) (eB E) (eT E) (eC E) H locs (nx - eN E) (sl - eO E) (oN o - nx) (oS o - sl) (F0 (eM E) pc la st0) st (mm_Qc (eD E) (eF E) (eA E) o a) (eA E)) (hI : mm_I E (w out) ls K P nx sl H locs la) (h1 : nx ≤ oN o) (h2 : sl ≤ oS o) (h3 : oN o ≤ oN (w out)) (h4 : oS o ≤ oS (w out)) (ho : f = some out)
    (kk : mm_V E w (pc + 3) ls ((oV o).toList ++ st) (oK o) (oP o) (oN o) (oS o) f) : mm_T E (w out) pc st0 nx sl H locs la := by
  obtain ⟨hls, hW, hsz, hn1, hs1, hS, hc1, hc2⟩ := hI
  intro T hT X
  obtain ⟨v, st₀, t, T', L, h0, X', hL, e1, e2, ⟨hoc, hW', hsz', hz, hk⟩, stp⟩ := hr T hT X
  cases hoc
  rw [h0] at hz hk
  have e3 : nx - eN E + (oN o - nx) = oN o - eN E := by omega
  have e4 : sl - eO E + (oS o - sl) = oS o - eO E := by omega
  rw [e3, e4] at X'
  obtain ⟨t2, a1, b1⟩ := kk out ho T'.heap (locs ++ L) la ⟨hls, by rw [e1]; exact hW', by rw [e1]; exact hsz', ⟨Nat.le_trans hn1.1 h1, h3⟩, ⟨Nat.le_trans hs1.1 h2, h4⟩,
    ⟨Nat.le_trans hS.1 (by rw [e1]; exact hz), fun q g1 g2 => by rw [e1, hk q (Nat.lt_of_lt_of_le g1 hS.1) g2]; exact hS.2.1 q g1 g2, fun q hq => by
      rcases List.mem_append.mp hq with h | h
      · exact hS.2.2 q h
      · exact hL q h⟩, hc1, hc2⟩ T' rfl X'
  exact ⟨t2, stp t2 a1, b1⟩
/-- what the tables say of a call of an instance method of the receiver's class k -/
def mm_CV (own : String) (index : Nat) (y : MethodName) (bytes : ByteArray) (maxL : Nat) (rt : Option FieldType) (n k : Nat) : Prop :=
  ∃ (Cn : String) (T : u_T) (N : Nat) (l : List mm_F), GoodIn lw_all (wsV own index Cn y (ws_ y bytes maxL rt)) ∧ (y.cls = Cn ∧ y.cls ≠ "java/lang/invoke/MethodHandle" ∧ y.cls ≠ "java/lang/invoke/VarHandle" ∧ (parseMethodDescriptor y.desc).map (fun d => d.parameters.length) = some n) ∧ mm_cl[mm_ci k]? = some (Cn, T, N) ∧ mm_fd k = some l
/-- .. of a static method of its own class -/
def mm_CS (own : String) (index : Nat) (y : MethodName) (bytes : ByteArray) (maxL : Nat) (rt : Option FieldType) (n : Nat) : Prop :=
  GoodIn lw_all (va_wsS own index y (ws_ y bytes maxL rt)) ∧ (y.cls ≠ "java/lang/invoke/MethodHandle" ∧ y.cls ≠ "java/lang/invoke/VarHandle" ∧ (parseMethodDescriptor y.desc).map (fun d => d.parameters.length) = some n)
theorem mm_pre (C : mm_Cx E own cc nL ret FR LC) {argv : List Value} {out : α} {H : Heap} {locs : List Loc} {la : Array Slot} (hI : mm_I E (w out) ls K P nx sl H locs la) : ∀ U : State, U.heap = H → (eS E).WarmedH U.vm → va_Pc argv (mm_Pc (eD E) (eF E) (eA E) K P nx) argv.toArray U := by
  obtain ⟨hls, hW, hsz, hn1, hs1, hS, hc1, hc2⟩ := hI
  intro U hU hWm
  exact ⟨rfl, by rw [hU]; exact hsz, by rw [hU]; exact hW, mm_KK.moved hWm.alike C.kk, fun q hq => C.a q (by rw [C.sz]; exact Nat.le_trans hn1.1 hq), nw_moved hWm C.nw, mm_ZS_kept hWm.alike (fun a ha hn => by rw [hU]; exact hS.2.1 a ha hn) C.zs, mm_AO_warm hWm C.ao⟩
theorem mm_callV (C : mm_Cx E own cc nL ret FR LC) {index n k maxL fr lc b : Nat} {y : MethodName} {bytes : ByteArray} {rt : Option FieldType} {As : List Value} {o : mm_O} (hM : mm_C (eL E) y (ws_ y bytes maxL rt) fr lc (.ref b :: As) K P nx sl o) (cv : mm_CV own index y bytes maxL rt n k) (hk : K.1 b = k) (hlen : As.length = n) (hfr : fr + 1 ≤ FR) (hlc : 8 + (maxL + 11) + lc ≤ LC) (hst : st0 = As.reverse ++ .ref b :: st) (hw : (st.map fun v => v.category).sum ≤ 8) (hmono : ∀ out, f = some out → nx ≤ oN (w out) ∧ sl ≤ oS (w out) → oN o ≤ oN (w out) ∧ oS o ≤ oS (w out)) (dd : decode cc pc = .ok (.invokevirtual index, 3))
    (kk : mm_V E w (pc + 3) ls ((oV o).toList ++ st) (oK o) (oP o) (oN o) (oS o) f) : mm_V E w pc ls st0 K P nx sl f := by
  intro out ho H locs la hI
  obtain ⟨Cn, T, N, l, hg, hd, hc, hf⟩ := cv
  obtain ⟨h1, h2, hM⟩ := hM
  have hm := hmono out ho ⟨hI.2.2.2.1.2, hI.2.2.2.2.1.2⟩
  have hrv := va_recv C.k (mm_P1 (hI.2.1.at (mm_cell_obj (cA := (eF E).1) (P := P) hk hf))) hc (q0 := 0) rfl
  refine mm_after C (va_runV ⟨C.x, C.b, C.ml, C.ow, C.ts⟩ (hM (eD E) (eF E) (eA E)) (cwV n C.ts hg rfl rfl rfl hd ⟨by rw [C.fr]; exact hfr, by rw [C.lc]; exact hlc⟩) ⟨mm_blind, hrv, mm_pre C hI⟩ rfl hlen (hI.1.1.trans C.ml) hst (lv_room hw) dd ?_) hI h1 h2 hm.1 hm.2 ho kk
  obtain ⟨hls, hW, hsz, hn1, hs1, hS, hc1, hc2⟩ := hI
  constructor <;> omega
theorem mm_callS (C : mm_Cx E own cc nL ret FR LC) {index n maxL fr lc : Nat} {y : MethodName} {bytes : ByteArray} {rt : Option FieldType} {As : List Value} {o : mm_O} (hM : mm_C (eL E) y (ws_ y bytes maxL rt) fr lc As K P nx sl o) (cv : mm_CS own index y bytes maxL rt n) (hlen : As.length = n) (hfr : fr + 1 ≤ FR) (hlc : 8 + (maxL + 11) + lc ≤ LC) (hst : st0 = As.reverse ++ st) (hw : (st.map fun v => v.category).sum ≤ 8) (hmono : ∀ out, f = some out → nx ≤ oN (w out) ∧ sl ≤ oS (w out) → oN o ≤ oN (w out) ∧ oS o ≤ oS (w out)) (dd : decode cc pc = .ok (.invokestatic index, 3))
    (kk : mm_V E w (pc + 3) ls ((oV o).toList ++ st) (oK o) (oP o) (oN o) (oS o) f) : mm_V E w pc ls st0 K P nx sl f := by
  intro out ho H locs la hI
  obtain ⟨hg, hd⟩ := cv
  obtain ⟨h1, h2, hM⟩ := hM
  have hm := hmono out ho ⟨hI.2.2.2.1.2, hI.2.2.2.2.1.2⟩
  refine mm_after C (va_runS ⟨C.x, C.b, C.ml, C.ow, C.ts⟩ (hM (eD E) (eF E) (eA E)) (va_cwS n C.ts hg rfl rfl rfl hd ⟨by rw [C.fr]; exact hfr, by rw [C.lc]; exact hlc⟩) ⟨mm_blind, mm_pre C hI⟩ rfl hlen (hI.1.1.trans C.ml) hst (lv_room hw) dd ?_) hI h1 h2 hm.1 hm.2 ho kk
  obtain ⟨hls, hW, hsz, hn1, hs1, hS, hc1, hc2⟩ := hI
  constructor <;> omega
/-! calls that make no cell, by what they hand back -/
theorem r_callV (C : mm_Cx E own cc nL ret FR LC) {index n k maxL fr lc b : Nat} {y : MethodName} {bytes : ByteArray} {rt : Option FieldType} {As : List Value} {v : Value} {P' : mm_P} (hM : mm_C (eL E) y (ws_ y bytes maxL rt) fr lc (.ref b :: As) K P nx sl (some v, K, P', nx, sl)) (cv : mm_CV own index y bytes maxL rt n k) (hk : K.1 b = k) (hlen : As.length = n) (hfr : fr + 1 ≤ FR) (hlc : 8 + (maxL + 11) + lc ≤ LC) (hst : st0 = As.reverse ++ .ref b :: st) (hw : (st.map fun v => v.category).sum ≤ 8) (dd : decode cc pc = .ok (.invokevirtual index, 3))
    (kk : mm_V E w (pc + 3) ls (v :: st) K P' nx sl f) : mm_V E w pc ls st0 K P nx sl f := mm_callV C hM cv hk hlen hfr hlc hst hw (fun _ _ h => h) dd kk
theorem r_callVv (C : mm_Cx E own cc nL ret FR LC) {index n k maxL fr lc b : Nat} {y : MethodName} {bytes : ByteArray} {rt : Option FieldType} {As : List Value} {P' : mm_P} (hM : mm_C (eL E) y (ws_ y bytes maxL rt) fr lc (.ref b :: As) K P nx sl (none, K, P', nx, sl)) (cv : mm_CV own index y bytes maxL rt n k) (hk : K.1 b = k) (hlen : As.length = n) (hfr : fr + 1 ≤ FR) (hlc : 8 + (maxL + 11) + lc ≤ LC) (hst : st0 = As.reverse ++ .ref b :: st) (hw : (st.map fun v => v.category).sum ≤ 8) (dd : decode cc pc = .ok (.invokevirtual index, 3))
    (kk : mm_V E w (pc + 3) ls st K P' nx sl f) : mm_V E w pc ls st0 K P nx sl f := mm_callV C hM cv hk hlen hfr hlc hst hw (fun _ _ h => h) dd kk
theorem r_callS (C : mm_Cx E own cc nL ret FR LC) {index n maxL fr lc : Nat} {y : MethodName} {bytes : ByteArray} {rt : Option FieldType} {As : List Value} {v : Value} {P' : mm_P} (hM : mm_C (eL E) y (ws_ y bytes maxL rt) fr lc As K P nx sl (some v, K, P', nx, sl)) (cv : mm_CS own index y bytes maxL rt n) (hlen : As.length = n) (hfr : fr + 1 ≤ FR) (hlc : 8 + (maxL + 11) + lc ≤ LC) (hst : st0 = As.reverse ++ st) (hw : (st.map fun v => v.category).sum ≤ 8) (dd : decode cc pc = .ok (.invokestatic index, 3))
    (kk : mm_V E w (pc + 3) ls (v :: st) K P' nx sl f) : mm_V E w pc ls st0 K P nx sl f := mm_callS C hM cv hlen hfr hlc hst hw (fun _ _ h => h) dd kk
theorem r_callSv (C : mm_Cx E own cc nL ret FR LC) {index n maxL fr lc : Nat} {y : MethodName} {bytes : ByteArray} {rt : Option FieldType} {As : List Value} {P' : mm_P} (hM : mm_C (eL E) y (ws_ y bytes maxL rt) fr lc As K P nx sl (none, K, P', nx, sl)) (cv : mm_CS own index y bytes maxL rt n) (hlen : As.length = n) (hfr : fr + 1 ≤ FR) (hlc : 8 + (maxL + 11) + lc ≤ LC) (hst : st0 = As.reverse ++ st) (hw : (st.map fun v => v.category).sum ≤ 8) (dd : decode cc pc = .ok (.invokestatic index, 3))
    (kk : mm_V E w (pc + 3) ls st K P' nx sl f) : mm_V E w pc ls st0 K P nx sl f := mm_callS C hM cv hlen hfr hlc hst hw (fun _ _ h => h) dd kk
end CALL
