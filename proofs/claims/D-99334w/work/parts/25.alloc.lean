/-! new cells; final fields; Object's constructor; stores of references; statics -/
set_option maxRecDepth 100000
def mm_fresh (P : mm_P) (a : Nat) : mm_P := (fun c x => if x = a then 0 else P.1 c x, fun c x => if x = a then none else P.2.1 c x, fun c x => if x = a then 0 else P.2.2.1 c x, fun r x i => if x = a then 0 else P.2.2.2.1 r x i, fun r x i => if x = a then none else P.2.2.2.2.1 r x i, fun r x i => if x = a then 0 else P.2.2.2.2.2 r x i)
def mm_kn (K : mm_K) (a k n : Nat) : mm_K := (fun x => if x = a then k else K.1 x, fun x => if x = a then n else K.2 x)
theorem mm_kn_1 {K : mm_K} {a k n : Nat} : (mm_kn K a k n).1 a = k := if_pos rfl
theorem mm_kn_2 {K : mm_K} {a k n : Nat} : (mm_kn K a k n).2 a = n := if_pos rfl
theorem mm_cell_old {cA : Nat → ClassId} {K : mm_K} {P : mm_P} {a k n b o : Nat} (hb : b ≠ a) : mm_cell cA (mm_kn K a k n) (mm_fresh P a) b o = mm_cell cA K P b o := by
  have e1 : (mm_kn K a k n).1 b = K.1 b := if_neg hb
  have e2 : (mm_kn K a k n).2 b = K.2 b := if_neg hb
  have hac : ∀ ek m r, mm_ac (mm_fresh P a) ek m r b = mm_ac P ek m r b := by
    intro ek m r
    have h4 : gA (mm_fresh P a) r b = gA P r b := by funext i; exact if_neg hb
    have h5 : gB (mm_fresh P a) r b = gB P r b := by funext i; exact if_neg hb
    have h6 : gL (mm_fresh P a) r b = gL P r b := by funext i; exact if_neg hb
    unfold mm_ac
    rw [h4, h5, h6]
  have hfs : ∀ l c, mm_fs (mm_fresh P a) b c l = mm_fs P b c l := fun l c => mm_fs_eq (fun i e _ => by
    have h1 : gI (mm_fresh P a) (c + i) b = gI P (c + i) b := if_neg hb
    have h2 : gR (mm_fresh P a) (c + i) b = gR P (c + i) b := if_neg hb
    have h3 : gJ (mm_fresh P a) (c + i) b = gJ P (c + i) b := if_neg hb
    unfold mm_fv
    rw [h1, h2, h3])
  unfold mm_cell
  rw [e1, e2]
  by_cases ho : o = 0
  · rw [if_pos ho, if_pos ho]
    cases hf : mm_fd (K.1 b) with
    | some l => dsimp only; rw [hfs]
    | none => dsimp only; congr 1; funext ek; rw [hac]
  · rw [if_neg ho, if_neg ho]
    congr 1
    funext q
    rw [hac]
theorem mm_W.new {D : va_G} {cA : mm_G} {A0 : Nat → Prop} {K : mm_K} {P : mm_P} {H H' : Heap} (hW : mm_W D cA A0 K P H) {k n : Nat} {e : va_E} (h0 : H.size ≠ 0) (hc : mm_cell cA.1 (mm_kn K H.size k n) (mm_fresh P H.size) H.size 0 = some e) (hn : ∀ o, o ≠ 0 → mm_ad k o = none) (hat : va_at D mm_cl (H.size, e) H') (hA : A0 H.size) (oq : ∀ q : Nat, q < H.size → H'[q]? = H[q]?) (hxk : mm_xt k e = true := by rfl) : mm_W D cA A0 (mm_kn K H.size k n) (mm_fresh P H.size) H' := by
  obtain ⟨hz, own, hown⟩ := hW
  refine ⟨fun i hi => ?_, fun q => if q = H.size then (H.size, 0) else own q, fun b o x hx => ?_⟩
  · rw [← hz i hi]
    exact if_neg (fun q => h0 q.symm)
  by_cases hb : b = H.size
  · subst hb
    by_cases ho : o = 0
    · subst ho
      rw [hc] at hx
      cases hx
      exact ⟨if_pos rfl, fun _ => hA, mm_at.of (by rw [mm_kn_1]; exact hxk) hat⟩
    · exfalso
      unfold mm_cell at hx
      rw [if_neg ho, mm_kn_1, hn o ho] at hx
      cases hx
  · rw [mm_cell_old hb] at hx
    obtain ⟨h1, h2, h3⟩ := hown _ _ _ hx
    have hlt : b + o < H.size := h3.lt
    refine ⟨?_, ?_, by rw [show (mm_kn K H.size k n).1 b = K.1 b from if_neg hb]; exact h3.kept (oq _ hlt)⟩
    · dsimp only
      rw [if_neg (by omega)]
      exact h1
    · intro hr
      exact h2 (by rw [← hr]; show mm_ro (K.1 b) = mm_ro (if b = H.size then k else K.1 b); rw [if_neg hb])
def mm_df (d : mm_F) : Value := match d.1 with
  | 0 => .int 0
  | 3 => .long 0
  | _ => .null
theorem mm_fv_fresh {P : mm_P} {a c : Nat} {d : mm_F} (h : d.1 ≠ 2) : mm_fv (mm_fresh P a) a c d = mm_df d := by
  obtain ⟨d1, d2, d3, d4⟩ := d
  have e1 : gI (mm_fresh P a) c a = 0 := if_pos rfl
  have e2 : gR (mm_fresh P a) c a = none := if_pos rfl
  have e3 : gJ (mm_fresh P a) c a = 0 := if_pos rfl
  unfold mm_fv mm_df
  rw [e1, e2, e3]
  match d1, h with
  | 0, _ => rfl
  | 1, _ => rfl
  | 3, _ => rfl
  | n + 4, _ => rfl
theorem mm_find_none {off : Nat} : ∀ (l : List mm_F) (j : Nat), l.all (fun d => decide (d.1 ≠ 2)) = true → mm_find off j l = none := by
  intro l
  induction l with
  | nil => intro j _; rfl
  | cons d ds ih =>
    intro j h
    simp only [List.all_cons, Bool.and_eq_true, decide_eq_true_eq] at h
    unfold mm_find
    rw [if_neg (fun q => h.1 q.1)]
    exact ih _ (by simpa using h.2)
/-- what the tables say of 'new' of the class code k, of N fields -/
def mm_NL (own : String) (index k N : Nat) : Prop := ∃ (Cn : String) (T : u_T) (l : List mm_F) (ty : Nat → FieldType), mm_cl[mm_ci k]? = some (Cn, T, N) ∧ (∀ w ∈ u_ws Cn T N, w ∈ lw_all) ∧ mm_fd k = some l ∧ l.all (fun d => decide (d.1 ≠ 2)) = true ∧ Cond.classLink own index Cn ∈ lw_all ∧ Cond.instantiable Cn N ∈ lw_all ∧ Cond.initialized Cn ∈ lw_all ∧ (∀ j, j < N → parseFieldDescriptor (T j).2.2.1 = some (ty j)) ∧ l.map mm_df = (List.range N).map (fun j => defaultValue (ty j))
section ALLOC
variable {α : Type} {E : mm_E} {own : String} {cc : ByteArray} {nL : Nat} {ret : Option FieldType} {FR LC : Nat} {w : α → mm_O} {pc : Nat} {ls : List (Option Value)} {st : List Value} {K : mm_K} {P : mm_P} {nx sl : Nat} {f : Option α}
theorem mm_Cx.pos (C : mm_Cx E own cc nL ret FR LC) : 0 < (eS E).heap.size := by
  obtain ⟨cf, kf, fi, fd, a, cell, h1, h2, h3, h4, h5, -⟩ := C.zs.1
  exact Nat.lt_of_le_of_lt (Nat.zero_le a) (Array.getElem?_eq_some_iff.mp h5).1
theorem r_new (C : mm_Cx E own cc nL ret FR LC) {index k N : Nat} (nl : mm_NL own index k N) (dd : decode cc pc = .ok (.new index, 3)) (kk : mm_V E w (pc + 3) ls (.ref nx :: st) (mm_kn K nx k 0) (mm_fresh P nx) (nx + 1) (sl + N) f) : mm_V E w pc ls st K P nx sl (mm_mo w (nx + 1) (sl + N) f) := by
  intro out ho H locs la hI
  obtain ⟨ho1, hm1, hm2⟩ := mm_mo_some ho
  obtain ⟨Cn, T, l, ty, hc, hin, hf, hall, hcl, hinst, hini, hty, hdf⟩ := nl
  obtain ⟨hls, hW, hsz, hn1, hs1, hS, hc1, hc2⟩ := hI
  have hpos := C.pos
  have hKn := C.k.1 _ _ hc
  have hszs := C.sz
  refine W.newcK C.x C.b C.ow (C.ts _ hcl) (C.ts _ hinst) (C.ts _ hini) rfl dd (by omega) (by omega) hKn.2.1 rfl fun H1 kC hkC e1 z1 o1 => ?_
  refine W.cs (cells' := nx + 1 - eN E) (slots' := sl + N - eO E) (by omega) (by omega) ?_
  have hcell : mm_cell (eF E).1 (mm_kn K H.size k 0) (mm_fresh P H.size) H.size 0 = some (.inr (mm_ci k, mm_fs (mm_fresh P H.size) H.size (mm_bs k) l)) := mm_cell_obj mm_kn_1 hf
  have hlen : l.length = N := by
    have := congrArg List.length hdf
    simpa using this
  have hat : va_at (eD E) mm_cl (H.size, .inr (mm_ci k, mm_fs (mm_fresh P H.size) H.size (mm_bs k) l)) H1 := by
    refine ⟨_, hc, (u_born ty C.ts hin hKn hkC e1 hty).to (fun j hj => ?_)⟩
    have hjl : j < l.length := by omega
    have e3 : (mm_fs (mm_fresh P H.size) H.size (mm_bs k) l)[j]? = some (mm_df l[j]) := by
      rw [mm_fs_at, List.getElem?_eq_getElem hjl, Option.map_some, mm_fv_fresh]
      have := List.all_eq_true.mp hall _ (List.getElem_mem hjl)
      simpa using this
    have e4 : (l.map mm_df)[j]? = some (defaultValue (ty j)) := by
      rw [hdf, List.getElem?_map, List.getElem?_range hj]
      rfl
    rw [List.getElem?_map, List.getElem?_eq_getElem hjl, Option.map_some] at e4
    unfold vp_V
    rw [List.getD_eq_getElem?_getD, e3, Option.getD_some]
    exact (Option.some.inj e4).symm
  have hW1 := hW.new (by omega) hcell (fun o ho => by unfold mm_ad; rw [hf]; exact mm_find_none l 0 hall) hat (C.a _ hS.1) o1
  rw [hsz] at hW1 ⊢
  refine kk out ho1 H1 locs la ⟨hls, hW1, by omega, ⟨by omega, hm1⟩, ⟨by omega, hm2⟩, ⟨Nat.le_trans hS.1 (by omega), fun x h1 h2 => (o1 x (Nat.lt_of_lt_of_le h1 hS.1)).trans (hS.2.1 x h1 h2), hS.2.2⟩, hc1, hc2⟩
/-- a new array of ints, bytes, longs or booleans -/
theorem mm_newa (C : mm_Cx E own cc nL ret FR LC) {atype : ArrayType} {ek N : Nat} {n : Int32} (hek : ek < 4) (harr : Cond.arrayClass (mm_ety ek) ∈ lw_all) (hty : newarray.typeOf atype = mm_ety ek) (hn : ¬ n < 0) (hN : n.toNatClampNeg = N) (hb : N * 8 ≤ 536870912) (dd : decode cc pc = .ok (.newarray atype, 2)) (kk : mm_V E w (pc + 2) ls (.ref nx :: st) (mm_kn K nx (64 + ek) N) (mm_fresh P nx) (nx + 1) (sl + N) f) : mm_V E w pc ls (.int n :: st) K P nx sl (mm_mo w (nx + 1) (sl + N) f) := by
  intro out ho H locs la hI
  obtain ⟨ho1, hm1, hm2⟩ := mm_mo_some ho
  obtain ⟨hls, hW, hsz, hn1, hs1, hS, hc1, hc2⟩ := hI
  have hpos := C.pos
  have hszs := C.sz
  have hcb : componentBytes (mm_ety ek) ≤ 8 := by
    match ek, hek with
    | 0, _ => decide
    | 1, _ => decide
    | 2, _ => decide
    | 3, _ => decide
  refine va_newaK C.x C.b (by rw [hty]; exact C.ts _ harr) rfl dd rfl hn hN (by rw [hty]; exact Nat.le_trans (Nat.mul_le_mul_left _ hcb) hb) (by omega) (by omega) rfl fun H1 cA e1 z1 o1 hAr hNm => ?_
  refine W.cs (cells' := nx + 1 - eN E) (slots' := sl + N - eO E) (by omega) (by omega) ?_
  rw [hty] at e1 hNm
  have hcA : cA = (eF E).1 ek := by
    have h2 := (C.k.2 ek _ (mm_tys_at (by omega))).2
    have h3 : (eS E).vm.findClass ("[" ++ (mm_ety ek).toString) = some ((eF E).1 ek) := by
      match ek, hek with
      | 0, _ => exact h2
      | 1, _ => exact h2
      | 2, _ => exact h2
      | 3, _ => exact h2
    exact Option.some.inj (hNm.symm.trans h3)
  subst hcA
  have hreg : mm_reg (mm_kn K H.size (64 + ek) N) (8192 + ek) H.size 0 ek N := by
    have := rg_sa (K := mm_kn K H.size (64 + ek) N) (a := H.size) (ek := ek) mm_kn_1 (by omega)
    rw [mm_kn_2] at this
    exact this
  have hcell := mm_cell_arr (cA := (eF E).1) (P := mm_fresh P H.size) hreg
  have hat : va_at (eD E) mm_cl (H.size, .inl ((eF E).1 ek, mm_ac (mm_fresh P H.size) ek N (8192 + ek) H.size)) H1 := by
    show H1[H.size]? = some (vp_cell _ _)
    rw [e1]
    have hA0 : gA (mm_fresh P H.size) (8192 + ek) H.size = fun _ => 0 := by funext i; exact if_pos rfl
    have hL0 : gL (mm_fresh P H.size) (8192 + ek) H.size = fun _ => 0 := by funext i; exact if_pos rfl
    unfold mm_ac
    rw [hA0, hL0]
    match ek, hek with
    | 0, _ => rfl
    | 1, _ => rfl
    | 2, _ => rfl
    | 3, _ => rfl
  have hW1 := hW.new (by omega) hcell (fun o ho => by
    have : mm_fd (64 + ek) = none := by
      match ek, hek with
      | 0, _ => rfl
      | 1, _ => rfl
      | 2, _ => rfl
      | 3, _ => rfl
    unfold mm_ad; rw [this]) hat (C.a _ hS.1) o1 (mm_xt_lt (by omega))
  rw [hsz] at hW1 ⊢
  refine kk out ho1 H1 locs la ⟨hls, hW1, by omega, ⟨by omega, hm1⟩, ⟨by omega, hm2⟩, ⟨Nat.le_trans hS.1 (by omega), fun x h1 h2 => (o1 x (Nat.lt_of_lt_of_le h1 hS.1)).trans (hS.2.1 x h1 h2), hS.2.2⟩, hc1, hc2⟩
def mm_aoN (ek : Nat) : String := match ek with
  | 4 => "java/lang/Object"
  | 5 => "PegLaws$State"
  | _ => "PegLaws$Mark"
/-- a new array of references -/
theorem mm_anewa (C : mm_Cx E own cc nL ret FR LC) {index ek N : Nat} {n : Int32} (hek : 4 ≤ ek ∧ ek < 7) (hcl : Cond.classLink own index (mm_aoN ek) ∈ lw_all) (hn : ¬ n < 0) (hN : n.toNatClampNeg = N) (hb : N * 4 ≤ 536870912) (dd : decode cc pc = .ok (.anewarray index, 3)) (kk : mm_V E w (pc + 3) ls (.ref nx :: st) (mm_kn K nx (64 + ek) N) (mm_fresh P nx) (nx + 1) (sl + N) f) : mm_V E w pc ls (.int n :: st) K P nx sl (mm_mo w (nx + 1) (sl + N) f) := by
  intro out ho H locs la hI
  obtain ⟨ho1, hm1, hm2⟩ := mm_mo_some ho
  obtain ⟨hls, hW, hsz, hn1, hs1, hS, hc1, hc2⟩ := hI
  have hpos := C.pos
  have hszs := C.sz
  have hao : va_AO (mm_aoN ek) (eS E) := by
    match ek, hek with
    | 4, _ => exact C.ao.1
    | 5, _ => exact C.ao.2.1
    | 6, _ => exact C.ao.2.2.1
  have hety : mm_ety ek = .object (mm_aoN ek) := by
    match ek, hek with
    | 4, _ => rfl
    | 5, _ => rfl
    | 6, _ => rfl
  subst hN
  refine W.anew C.x C.b C.ow (C.ts _ hcl) (va_AO.use hao) rfl dd rfl hn hb (by omega) (by omega) fun cA kA comp g1 g2 g3 g4 => ?_
  refine W.cs (cells' := nx + 1 - eN E) (slots' := sl + n.toNatClampNeg - eO E) (by omega) (by omega) ?_
  have hcA : cA = (eF E).1 ek := by
    have h2 := (C.k.2 ek _ (mm_tys_at hek.2)).2
    dsimp only at h2
    rw [hety] at h2
    obtain ⟨kA', comp', -, -, -, h3⟩ := h2
    exact Option.some.inj (g1.symm.trans h3)
  subst hcA
  have hreg : mm_reg (mm_kn K H.size (64 + ek) n.toNatClampNeg) (8192 + ek) H.size 0 ek n.toNatClampNeg := by
    have := rg_sa (K := mm_kn K H.size (64 + ek) n.toNatClampNeg) (a := H.size) (ek := ek) mm_kn_1 hek.2
    rw [mm_kn_2] at this
    exact this
  have hcell := mm_cell_arr (cA := (eF E).1) (P := mm_fresh P H.size) hreg
  have o1 : ∀ q : Nat, q < H.size → (H.push ({ cls := (eF E).1 ek, slots := Array.replicate n.toNatClampNeg .null, vm := .none } : Cell))[q]? = H[q]? := fun q hq => by rw [Array.getElem?_push, if_neg (Nat.ne_of_lt hq)]
  have hat : va_at (eD E) mm_cl (H.size, .inl ((eF E).1 ek, mm_ac (mm_fresh P H.size) ek n.toNatClampNeg (8192 + ek) H.size)) (H.push ({ cls := (eF E).1 ek, slots := Array.replicate n.toNatClampNeg .null, vm := .none } : Cell)) := by
    show (H.push _)[H.size]? = some (vp_cell _ _)
    have hB0 : gB (mm_fresh P H.size) (8192 + ek) H.size = fun _ => none := by funext i; exact if_pos rfl
    have hac : mm_ac (mm_fresh P H.size) ek n.toNatClampNeg (8192 + ek) H.size = (n.toNatClampNeg, .inr (.inr (.inr (.inr (fun _ => none))))) := by
      unfold mm_ac
      rw [hB0, if_neg (by omega), if_neg (by omega)]
    rw [hac, vp_cell_q]
    simp only [Array.getElem?_push_size, Option.some.injEq]
    show ({ cls := (eF E).1 ek, slots := Array.replicate n.toNatClampNeg .null, vm := .none } : Cell) = arrV _ _ _
    unfold arrV
    congr 1
    apply Array.ext
    · simp
    · intro i h1 h2
      simp [va_rf]
  have hW1 := hW.new (by omega) hcell (fun o ho => by
    have : mm_fd (64 + ek) = none := by
      match ek, hek with
      | 4, _ => rfl
      | 5, _ => rfl
      | 6, _ => rfl
    unfold mm_ad; rw [this]) hat (C.a _ hS.1) o1 (mm_xt_lt (by omega))
  rw [hsz] at hW1 ⊢
  refine kk out ho1 _ locs la ⟨hls, hW1, by simp [hsz], ⟨by omega, hm1⟩, ⟨by omega, hm2⟩, ⟨Nat.le_trans hS.1 (by simp), fun x h1 h2 => (o1 x (Nat.lt_of_lt_of_le h1 hS.1)).trans (hS.2.1 x h1 h2), hS.2.2⟩, hc1, hc2⟩
theorem r_objinit (C : mm_Cx E own cc nL ret FR LC) {index a : Nat} (hl : Cond.methodLink own index Lib.objectInit ∈ lw_all) (h2 : Cond.instanceMethod Lib.objectInit ∈ lw_all) (h3 : Cond.code Lib.objectInit ⟨#[0xb1]⟩ 1 none ∈ lw_all) (hfr : 1 ≤ FR) (hlc : 20 ≤ LC) (hw : (st.map fun v => v.category).sum ≤ 8) (dd : decode cc pc = .ok (.invokespecial index, 3)) (kk : mm_V E w (pc + 3) ls st K P nx sl f) : mm_V E w pc ls (.ref a :: st) K P nx sl f := by
  intro out ho H locs la hI
  have h := hI
  obtain ⟨hls, hW, hsz, hn1, hs1, hS, hc1, hc2⟩ := hI
  exact W.objInit C.x C.b C.ow (C.ts _ hl) (C.ts _ h2) (C.ts _ h3) rfl hls.1 rfl dd (by rw [C.fr]; exact hfr) (Nat.le_trans (Nat.add_le_add_right (lv_room hw) 12) (by rw [C.lc]; exact hlc)) (kk out ho H locs la h)
/-- a final field of its own class, in a constructor -/
def mm_FF (own : String) (index k j : Nat) (d : mm_F) (ty : FieldType) : Prop :=
  ∃ (Cn : String) (T : u_T) (N : Nat) (l : List mm_F) (ty0 : Nat → FieldType), mm_cl[mm_ci k]? = some (Cn, T, N) ∧ (∀ w ∈ u_ws Cn T N, w ∈ lw_all) ∧ mm_fd k = some l ∧ l[j]? = some d ∧ j < N ∧ Cond.fieldLink own index (T j).1 (T j).2.1 (T j).2.2.1 ∈ lw_all ∧ (∀ k, k < N → parseFieldDescriptor (T k).2.2.1 = some (ty0 k)) ∧ (∀ a, a < N → ∀ b, b < N → a ≠ b → (T a).2.1 ≠ (T b).2.1) ∧ ty0 j = ty ∧ (T j).2.2.2 = true ∧ (T j).1 = own

theorem mm_putVF (C : mm_Cx E own cc nL ret FR LC) {index k j a : Nat} {d : mm_F} {ty : FieldType} {P' : mm_P} {v : Value} (hin0 : (eT E).name = "<init>") (fl : mm_FF own index k j d ty) (hk : K.1 a = k) (hro : mm_ro k = false) (hv : mm_fv P' a (mm_bs k + j) d = v) (h1 : ∀ x y, (x ≠ mm_bs k + j ∨ y ≠ a) → gI P' x y = gI P x y) (h2 : ∀ x y, (x ≠ mm_bs k + j ∨ y ≠ a) → gR P' x y = gR P x y) (h3 : ∀ x y, (x ≠ mm_bs k + j ∨ y ≠ a) → gJ P' x y = gJ P x y) (h4 : gA P' = gA P) (h5 : gB P' = gB P) (h6 : gL P' = gL P) (hn : narrow ty v = v) (hfit : fits ty v = true)
    (dd : decode cc pc = .ok (.putfield index, 3)) (kk : mm_V E w (pc + 3) ls st K P' nx sl f) : mm_V E w pc ls (v :: .ref a :: st) K P nx sl f := by
  intro out ho H locs la h
  obtain ⟨Cn, T, N, l, ty0, hc, hin, hf, hj, hjN, hlk, hty, hnm, ht0, hfin, hdecl⟩ := fl
  obtain ⟨hls, hW, hsz, hn1, hs1, hS, hc1, hc2⟩ := h
  have hcell := mm_cell_obj (cA := (eF E).1) (P := P) hk hf
  have hwr : eA E a := hW.wr hcell (by rw [hk]; exact hro)
  obtain ⟨r, g1, cell, q1, q2, q3, q4⟩ := hW.at hcell
  have hr : r = (Cn, T, N) := Option.some.inj (g1.symm.trans hc)
  subst hr
  have hap := va_apart (own := own) C.ts hin ty0 hty hnm C.k hc
  obtain ⟨hSl, hfc, kC, hkC, hkind⟩ := C.k.1 _ _ hc
  obtain ⟨cf, kf, fi, fd, hi, hsl⟩ := hSl j hjN
  have hlay := C.ts _ (hin _ (u_in_lay hjN))
  unfold u_lay at hlay
  rw [if_pos hfin] at hlay
  have hst := (u_facts hfc hkC (u_lays C.ts hin hjN) hi).1
  have hd : parseFieldDescriptor (T j).2.2.1 = some ty := by rw [hty j hjN, ht0]
  have hcf : (eM E).cls = cf := by
    obtain ⟨_, _, c', _, _, _, -, -, hf', -, -, -, hown2, -⟩ := Cond.laysFinal_spec hlay
    have e1 : c' = cf := by have := hi.symm.trans hf'; simp at this; exact this.1.symm
    rw [hdecl] at hown2
    rw [← e1]; exact Option.some.inj (C.ow.symm.trans hown2)
  have hq := u_fits hfc hkC hkind (Or.inr hlay) hi hd hn hfit
  have hlen : j < (mm_fs P a (mm_bs k) l).length := by rw [mm_fs_len]; exact (List.getElem?_eq_some_iff.mp hj).1
  have fin : ∀ (H' : Heap), H'[a]? = some (cell.setSlot fd.slot v) → H'.size = H.size → (∀ q : Nat, q ≠ a → H'[q]? = H[q]?) → mm_T E (w out) (pc + 3) st nx sl H' (locs ++ [⟨a, fd.slot⟩]) la := by
    intro H' e1 e2 e3
    rw [hsl] at e1 ⊢
    refine kk out ho H' _ la ⟨hls, hW.put (fun i hi => h2 i 0 (Or.inl (by have := mm_bs_ge hf; omega))) hcell (mm_cell_set hk hf hj hv h1 h2 h3) (mm_cell_fld h1 h2 h3 h4 h5 h6) ⟨_, hc, t_OB.to (V := updV (vp_V (mm_fs P a (mm_bs k) l)) j v) ⟨_, e1, q2, q3, t_set q4 hap hjN v⟩ (fun z _ => vp_updV_set hlen v z)⟩ e3, by rw [e2]; exact hsz, hn1, hs1, hS.put e2 e3 hwr, hc1, hc2⟩
  exact W.putFinK C.x C.b C.ow (C.ts _ hlk) hi hst hcf hin0 (by rw [q2]; exact hq) q1 q3 (by rw [hsl]; exact k2_hasslot (q4 j hjN)) rfl rfl dd fin

theorem r_putIF (C : mm_Cx E own cc nL ret FR LC) (hin0 : (eT E).name = "<init>") {index k j a code : Nat} {x : Int32} {ty : FieldType} (fl : mm_FF own index k j mm_i ty) (hk : K.1 a = k) (hro : mm_ro k = false) (hc : mm_bs k + j = code) (hn : narrow ty (.int x) = .int x) (hfit : fits ty (.int x) = true) (dd : decode cc pc = .ok (.putfield index, 3)) (kk : mm_V E w (pc + 3) ls st K (sI P code a x) nx sl f) : mm_V E w pc ls (.int x :: .ref a :: st) K P nx sl f := by
  subst hc
  refine mm_putVF C hin0 fl hk hro (P' := sI P (mm_bs k + j) a x) ?_ ?_ (fun _ _ _ => rfl) (fun _ _ _ => rfl) rfl rfl rfl hn hfit dd kk
  · show Value.int (if _ ∧ _ then x else _) = _
    rw [if_pos ⟨rfl, rfl⟩]
  · intro y z h
    show (if _ ∧ _ then x else _) = _
    rw [if_neg (by omega)]
    rfl
theorem r_putRF (C : mm_Cx E own cc nL ret FR LC) (hin0 : (eT E).name = "<init>") {index k j a code : Nat} {ty : FieldType} {v : Value} {x : Option Nat} (fl : mm_FF own index k j mm_r ty) (hk : K.1 a = k) (hro : mm_ro k = false) (hc : mm_bs k + j = code) (hv : va_rf x = v) (hn : ∀ x, narrow ty (va_rf x) = va_rf x) (hfit : ∀ x, fits ty (va_rf x) = true) (dd : decode cc pc = .ok (.putfield index, 3)) (kk : mm_V E w (pc + 3) ls st K (sR P code a x) nx sl f) : mm_V E w pc ls (v :: .ref a :: st) K P nx sl f := by
  subst hc
  subst hv
  refine mm_putVF C hin0 fl hk hro (P' := sR P (mm_bs k + j) a x) ?_ (fun _ _ _ => rfl) ?_ (fun _ _ _ => rfl) rfl rfl rfl (hn x) (hfit x) dd kk
  · show va_rf (if _ ∧ _ then x else _) = _
    rw [if_pos ⟨rfl, rfl⟩]
  · intro y z h
    show (if _ ∧ _ then x else _) = _
    rw [if_neg (by omega)]
    rfl
theorem r_putIT (C : mm_Cx E own cc nL ret FR LC) {index k j a code : Nat} {x : Int32} {ty : FieldType} (fl : mm_FL own index k j mm_i ty false) (hk : K.1 a = k) (hro : mm_ro k = false) (hc : mm_bs k + j = code) (hn : narrow ty (.int x) = .int x) (hfit : fits ty (.int x) = true) (dd : decode cc pc = .ok (.putfield index, 3)) (kk : mm_V E w (pc + 3) ls st K (sI P code a x) nx sl f) : mm_V E w pc ls (.int x :: .ref a :: st) K P nx sl f := by
  subst hc
  refine mm_putV C fl hk hro (P' := sI P (mm_bs k + j) a x) ?_ ?_ (fun _ _ _ => rfl) (fun _ _ _ => rfl) rfl rfl rfl hn hfit dd kk
  · show Value.int (if _ ∧ _ then x else _) = _
    rw [if_pos ⟨rfl, rfl⟩]
  · intro y z h
    show (if _ ∧ _ then x else _) = _
    rw [if_neg (by omega)]
    rfl
/-- a reference that may be null put by kind 4: the reader's text -/
theorem r_putT (C : mm_Cx E own cc nL ret FR LC) {index k j a b code off : Nat} {ty : FieldType} (fl : mm_FL own index k j (4, off, 0, 0) ty false) (hk : K.1 a = k) (hro : mm_ro k = false) (hc : mm_bs k + j = code) (hn : ∀ x, narrow ty (va_rf x) = va_rf x) (hfit : ∀ x, fits ty (va_rf x) = true) (dd : decode cc pc = .ok (.putfield index, 3)) (kk : mm_V E w (pc + 3) ls st K (sR P code a (some b)) nx sl f) : mm_V E w pc ls (.ref (b + off) :: .ref a :: st) K P nx sl f := by
  subst hc
  refine mm_putV C fl hk hro (P' := sR P (mm_bs k + j) a (some b)) ?_ (fun _ _ _ => rfl) ?_ (fun _ _ _ => rfl) rfl rfl rfl (hn (some (b + off))) (hfit (some (b + off))) dd kk
  · show va_rf (Option.map (fun x => x + off) (if _ ∧ _ then some b else _)) = _
    rw [if_pos ⟨rfl, rfl⟩]
    rfl
  · intro y z h
    show (if _ ∧ _ then some b else _) = _
    rw [if_neg (by omega)]
    rfl
theorem mm_ast_cell {r a i : Nat} {v : Option Nat} {n : Nat} {cA : ClassId} {ek : Nat} (hek : 4 ≤ ek) (P : mm_P) {C1 : Cell} (h : C1 = Cell.setSlot (vp_cell cA (mm_ac P ek n r a)) i (va_rf v)) : C1 = vp_cell cA (mm_ac (sB P r a i v) ek n r a) := by
  have e1 : ∀ Q, mm_ac Q ek n r a = (n, .inr (.inr (.inr (.inr (gB Q r a))))) := fun Q => by
    unfold mm_ac
    rw [if_neg (by omega), if_neg (by omega)]
  rw [h, e1, e1, vp_cell_q, vp_cell_q, arrV_store]
  congr 1
  funext q
  by_cases hq : q = i
  · subst hq
    show updV _ _ _ _ = va_rf (if _ ∧ _ ∧ _ then _ else _)
    rw [if_pos ⟨rfl, rfl, rfl⟩]
    simp [updV]
  · show updV _ _ _ _ = va_rf (if _ ∧ _ ∧ _ then _ else _)
    rw [if_neg (fun z => hq z.2.2)]
    simp [updV, hq]
    rfl
/-- an object of class code kv may stand in an array of element kind ek -/
def mm_CS2 (ek kv : Nat) : Prop := ∃ (Cn : String) (T : u_T) (N : Nat) (l : List mm_F), mm_cl[mm_ci kv]? = some (Cn, T, N) ∧ mm_fd kv = some l ∧ (Cn = mm_aoN ek ∨ Cond.castable Cn (mm_aoN ek) ∈ nw_all)
theorem r_aast (C : mm_Cx E own cc nL ret FR LC) {r a off ek n adr v kv : Nat} {i : Int32} (hek : 4 ≤ ek ∧ ek < 7) (cs : mm_CS2 ek kv) (hr : mm_reg K r a off ek n) (hro : mm_ro (K.1 a) = false) (hadr : a + off = adr) (hkv : K.1 v = kv) (dd : decode cc pc = .ok (.aastore, 1)) (kk : mm_in i n → mm_V E w (pc + 1) ls st K (sB P r a i.toNatClampNeg (some v)) nx sl f) : mm_V E w pc ls (.ref v :: .int i :: .ref adr :: st) K P nx sl (mm_gd (mm_in i n) f) := by
  subst hadr
  refine r_gd fun hin => ?_
  intro out ho H locs la h
  obtain ⟨hls, hW, hsz, hn1, hs1, hS, hc1, hc2⟩ := h
  obtain ⟨Cn, T, N, l, hc, hf, hca⟩ := cs
  have hcell := mm_cell_arr (cA := (eF E).1) (P := P) hr
  have hat : H[a + off]? = some (vp_cell ((eF E).1 ek) (mm_ac P ek n r a)) := hW.at hcell (mm_xt_ro hro)
  have hoth : ∀ y z, (y ≠ r ∨ z ≠ a) → gB (sB P r a i.toNatClampNeg (some v)) y z = gB P y z := by
    intro y z hyz
    funext q
    show (if _ ∧ _ ∧ _ then _ else _) = _
    rw [if_neg (by omega)]
    rfl
  obtain ⟨r', hr', cellV, g1, g2, g3, -⟩ := hW.at (mm_cell_obj (cA := (eF E).1) (P := P) hkv hf)
  have hcls := (C.k.1 _ _ hc).2
  have hrr : r' = (Cn, T, N) := Option.some.inj (hr'.symm.trans hc)
  subst hrr
  have hlt : i.toNatClampNeg < n := Nat.not_le.mp fun q => hin (Or.inr q)
  have h0 : ¬ i < 0 := fun q => hin (Or.inl q)
  have hety : mm_ety ek = .object (mm_aoN ek) := by
    match ek, hek with
    | 4, _ => rfl
    | 5, _ => rfl
    | 6, _ => rfl
  have hty := (C.k.2 ek _ (mm_tys_at hek.2)).2
  dsimp only at hty
  rw [hety] at hty
  obtain ⟨kA, comp, k1, k2, k3, -⟩ := hty
  have hsize : (vp_cell ((eF E).1 ek) (mm_ac P ek n r a)).slots.size = n := by
    unfold mm_ac
    rw [if_neg (by omega), if_neg (by omega), vp_cell_q, arrV_size]
  have hvm : (vp_cell ((eF E).1 ek) (mm_ac P ek n r a)).vm = .none ∧ (vp_cell ((eF E).1 ek) (mm_ac P ek n r a)).cls = (eF E).1 ek := by
    unfold mm_ac
    rw [if_neg (by omega), if_neg (by omega), vp_cell_q]
    exact ⟨rfl, rfl⟩
  obtain ⟨kC, hkC, -⟩ := hcls.2
  have hasg : (eS E).vm.assignable ((eD E).1 (mm_ci kv)) comp = true := by
    rcases hca with e | e
    · have hcomp : comp = (eD E).1 (mm_ci kv) := Option.some.inj (k3.symm.trans (by rw [← e]; exact hcls.1))
      rw [hcomp]
      exact va_assign hcls
    · exact vb_asgC (C.nw _ e) comp _ k3 hcls.1
  obtain ⟨kcomp, hkcomp, -⟩ := Vm.findClass_spec k3
  refine W.aast C.x C.b hat (fun q h => by rw [hvm.1] at h; cases h) (fun h => by rw [hvm.1] at h; cases h) (by rw [hvm.2]; exact k1) k2 rfl hkcomp ⟨h0, by rw [hsize]; exact hlt⟩ g1 (fun q h => by rw [g3] at h; cases h) (by rw [g2]; exact hkC) (by rw [g2]; exact hasg) rfl rfl dd fun H1 e z oq => ?_
  refine kk hin out ho H1 _ la ⟨hls, hW.put (fun _ _ => rfl) hcell (mm_cell_arr hr) (mm_cell_ast hr rfl rfl rfl (fun _ _ _ => rfl) hoth (fun _ _ _ => rfl)) ?_ oq (mm_xt_ro hro), by rw [z]; exact hsz, hn1, hs1, hS.put z oq (hW.wr hcell hro), hc1, hc2⟩
  show H1[a + off]? = some (vp_cell ((eF E).1 ek) _)
  rw [e]
  exact congrArg some (mm_ast_cell hek.1 P rfl)
theorem r_aastN (C : mm_Cx E own cc nL ret FR LC) {r a off ek n adr : Nat} {i : Int32} (hek : 4 ≤ ek ∧ ek < 7) (hr : mm_reg K r a off ek n) (hro : mm_ro (K.1 a) = false) (hadr : a + off = adr) (dd : decode cc pc = .ok (.aastore, 1)) (kk : mm_in i n → mm_V E w (pc + 1) ls st K (sB P r a i.toNatClampNeg none) nx sl f) : mm_V E w pc ls (.null :: .int i :: .ref adr :: st) K P nx sl (mm_gd (mm_in i n) f) := by
  subst hadr
  refine r_gd fun hin => ?_
  intro out ho H locs la h
  obtain ⟨hls, hW, hsz, hn1, hs1, hS, hc1, hc2⟩ := h
  have hcell := mm_cell_arr (cA := (eF E).1) (P := P) hr
  have hat : H[a + off]? = some (vp_cell ((eF E).1 ek) (mm_ac P ek n r a)) := hW.at hcell (mm_xt_ro hro)
  have hoth : ∀ y z, (y ≠ r ∨ z ≠ a) → gB (sB P r a i.toNatClampNeg none) y z = gB P y z := by
    intro y z hyz
    funext q
    show (if _ ∧ _ ∧ _ then _ else _) = _
    rw [if_neg (by omega)]
    rfl
  have hety : mm_ety ek = .object (mm_aoN ek) := by
    match ek, hek with
    | 4, _ => rfl
    | 5, _ => rfl
    | 6, _ => rfl
  have hac : mm_ac P ek n r a = (n, .inr (.inr (.inr (.inr (gB P r a))))) := by
    unfold mm_ac
    rw [if_neg (by omega), if_neg (by omega)]
  have hsize : (vp_cell ((eF E).1 ek) (mm_ac P ek n r a)).slots.size = n := by rw [hac, vp_cell_q, arrV_size]
  refine va_WaastN (C := mm_aoN ek) C.x C.b hat (by rw [hac, vp_cell_q, ← hety]; exact (C.k.2 ek _ (mm_tys_at hek.2)).1 n (fun j => va_rf (gB P r a j))) (by rw [hac, vp_cell_q]; exact fun h => by cases h) (by rw [hsize]; exact hin) rfl rfl dd fun H1 e z oq => ?_
  refine kk hin out ho H1 _ la ⟨hls, hW.put (fun _ _ => rfl) hcell (mm_cell_arr hr) (mm_cell_ast hr rfl rfl rfl (fun _ _ _ => rfl) hoth (fun _ _ _ => rfl)) ?_ oq (mm_xt_ro hro), by rw [z]; exact hsz, hn1, hs1, hS.put z oq (hW.wr hcell hro), hc1, hc2⟩
  show H1[a + off]? = some (vp_cell ((eF E).1 ek) _)
  rw [e]
  exact congrArg some (mm_ast_cell (v := none) hek.1 P rfl)
end ALLOC
