/-! an object whose arrays are its own: raw after its constructor's stores, packed from its end on -/
set_option maxRecDepth 100000
def mm_raw (d : mm_F) : mm_F := if d.1 = 2 then mm_r else d
def mm_pkb (K : mm_K) (P : mm_P) (a k : Nat) : Nat → List mm_F → Bool
  | _, [] => true
  | j, d :: ds => (if d.1 = 2 then decide (gR P (128 * (32 + k) + j) a = some (a + d.2.1)) && (decide (K.1 (a + d.2.1) = 64 + d.2.2.1) && (decide (K.2 (a + d.2.1) = d.2.2.2) && decide (d.2.1 ≠ 0))) else true) && mm_pkb K P a k (j + 1) ds
theorem mm_pkb_at {K : mm_K} {P : mm_P} {a k : Nat} : ∀ (l : List mm_F) (j0 j off ek len : Nat), mm_pkb K P a k j0 l = true → l[j]? = some (2, off, ek, len) → gR P (128 * (32 + k) + (j0 + j)) a = some (a + off) ∧ K.1 (a + off) = 64 + ek ∧ K.2 (a + off) = len ∧ off ≠ 0 := by
  intro l
  induction l with
  | nil => intro j0 j off ek len h hj; simp at hj
  | cons d ds ih =>
    intro j0 j off ek len h hj
    unfold mm_pkb at h
    rw [Bool.and_eq_true] at h
    cases j with
    | zero =>
      simp at hj
      subst hj
      have h1 := h.1
      rw [if_pos rfl] at h1
      simpa using h1
    | succ j =>
      have := ih (j0 + 1) j off ek len h.2 (by simpa using hj)
      rw [show j0 + (j + 1) = j0 + 1 + j by omega]
      exact this
def mm_pok (K : mm_K) (P : mm_P) (a k : Nat) : Bool := match mm_fd k with
  | none => false
  | some l => decide (K.1 a = 32 + k) && mm_pkb K P a k 0 l
def mm_at2 (k j : Nat) : Option (Nat × Nat) := match mm_fd k with
  | none => none
  | some l => match l[j]? with
    | some d => if d.1 = 2 then some (d.2.1, d.2.2.1) else none
    | none => none
def mm_packK (K : mm_K) (a k : Nat) : mm_K := (fun x => if x = a then k else if a ≤ x ∧ (mm_ad k (x - a)).isSome = true then 0 else K.1 x, K.2)
def mm_packP (P : mm_P) (a k : Nat) : mm_P :=
  (fun c x => if x = a ∧ 128 * k ≤ c ∧ c < 128 * k + 128 then P.1 (c + 4096) a else P.1 c x,
   fun c x => if x = a ∧ 128 * k ≤ c ∧ c < 128 * k + 128 then P.2.1 (c + 4096) a else P.2.1 c x,
   fun c x => if x = a ∧ 128 * k ≤ c ∧ c < 128 * k + 128 then P.2.2.1 (c + 4096) a else P.2.2.1 c x,
   fun r x i => if x = a ∧ 128 * k ≤ r ∧ r < 128 * k + 128 then (match mm_at2 k (r - 128 * k) with | some q => gA P (8192 + q.2) (a + q.1) i | none => gA P r x i) else gA P r x i,
   fun r x i => if x = a ∧ 128 * k ≤ r ∧ r < 128 * k + 128 then (match mm_at2 k (r - 128 * k) with | some q => gB P (8192 + q.2) (a + q.1) i | none => gB P r x i) else gB P r x i,
   fun r x i => if x = a ∧ 128 * k ≤ r ∧ r < 128 * k + 128 then (match mm_at2 k (r - 128 * k) with | some q => gL P (8192 + q.2) (a + q.1) i | none => gL P r x i) else gL P r x i)
theorem mm_W.pack {D : va_G} {cA : mm_G} {A0 : Nat → Prop} {K : mm_K} {P : mm_P} {H : Heap} {a k : Nat} {l : List mm_F} (hW : mm_W D cA A0 K P H) (h : mm_pok K P a k = true) (hf : mm_fd k = some l) (hk : 1 ≤ k ∧ k < 7 ∨ 10 < k ∧ k < 22) (hraw : mm_fd (32 + k) = some (l.map mm_raw)) (hro : mm_ro (32 + k) = false) : mm_W D cA A0 (mm_packK K a k) (mm_packP P a k) H := by
  unfold mm_pok at h
  rw [hf] at h
  simp only [Bool.and_eq_true, decide_eq_true_eq] at h
  obtain ⟨hKa, hb⟩ := h
  have hat := mm_pkb_at (K := K) (P := P) (a := a) (k := k) l 0
  obtain ⟨hz, own, hown⟩ := hW
  have hbs : mm_bs k = 128 * k := by unfold mm_bs; rw [if_neg (by omega), if_neg (by omega)]
  have hbr : mm_bs (32 + k) = 128 * (32 + k) := by unfold mm_bs; rw [if_neg (by omega), if_neg (by omega)]
  have hci : mm_ci (32 + k) = mm_ci k := by
    unfold mm_ci
    rw [if_neg (by omega), if_neg (by omega), if_neg (by omega), if_neg (by omega), if_neg (by omega), if_pos (by omega)]
    omega
  have hll : l.length ≤ 64 := by
    have key : ∀ k, k < 64 → (match mm_fd k with | none => true | some l => decide (l.length ≤ 64)) = true := by decide +kernel
    have := key k (by omega)
    rw [hf] at this
    simpa using this
  -- the cells of the raw object and of its arrays
  have c0 : mm_cell cA.1 K P a 0 = some (.inr (mm_ci k, mm_fs P a (128 * (32 + k)) (l.map mm_raw))) := by
    have := mm_cell_obj (cA := cA.1) (P := P) hKa hraw
    rw [hci, hbr] at this
    exact this
  have hfield : ∀ j d, l[j]? = some d → mm_fv (mm_packP P a k) a (128 * k + j) d = mm_fv P a (128 * (32 + k) + j) (mm_raw d) := by
    intro j d hj
    have hjl : j < l.length := (List.getElem?_eq_some_iff.mp hj).1
    have e0 : a = a ∧ 128 * k ≤ 128 * k + j ∧ 128 * k + j < 128 * k + 128 := ⟨rfl, by omega, by omega⟩
    have e1 : 128 * k + j + 4096 = 128 * (32 + k) + j := by omega
    have g1 : gI (mm_packP P a k) (128 * k + j) a = gI P (128 * (32 + k) + j) a := by rw [← e1]; exact if_pos e0
    have g2 : gR (mm_packP P a k) (128 * k + j) a = gR P (128 * (32 + k) + j) a := by rw [← e1]; exact if_pos e0
    have g3 : gJ (mm_packP P a k) (128 * k + j) a = gJ P (128 * (32 + k) + j) a := by rw [← e1]; exact if_pos e0
    obtain ⟨d1, d2, d3, d4⟩ := d
    by_cases hd : d1 = 2
    · subst hd
      have := (hat j d2 d3 d4 hb hj).1
      rw [Nat.zero_add] at this
      show Value.ref (a + d2) = va_rf (gR P (128 * (32 + k) + j) a)
      rw [this]
      rfl
    · have hr : mm_raw (d1, d2, d3, d4) = (d1, d2, d3, d4) := if_neg hd
      rw [hr]
      unfold mm_fv
      rw [g1, g2, g3]
  have hlist : mm_fs (mm_packP P a k) a (128 * k) l = mm_fs P a (128 * (32 + k)) (l.map mm_raw) := by
    apply List.ext_getElem?
    intro i
    rw [mm_fs_at, mm_fs_at, List.getElem?_map]
    cases hi : l[i]? with
    | none => rfl
    | some d => rw [Option.map_some, Option.map_some, Option.map_some, hfield i d hi]
  have hKa' : (mm_packK K a k).1 a = k := if_pos rfl
  -- an array of the object
  have harr : ∀ o ek len j, mm_ad k o = some (ek, len, j) → o ≠ 0 ∧ l[j]? = some (2, o, ek, len) ∧ K.1 (a + o) = 64 + ek ∧ K.2 (a + o) = len := by
    intro o ek len j ho
    obtain ⟨l2, hl2, hj⟩ := mm_ad_spec ho
    rw [hf] at hl2
    cases hl2
    obtain ⟨-, h2, h3, h4⟩ := hat j o ek len hb hj
    exact ⟨h4, hj, h2, h3⟩
  have hcarr : ∀ o ek len j, mm_ad k o = some (ek, len, j) → mm_cell cA.1 K P (a + o) 0 = some (.inl (cA.1 ek, mm_ac P ek len (8192 + ek) (a + o))) := by
    intro o ek len j ho
    obtain ⟨-, -, h2, h3⟩ := harr o ek len j ho
    have := mm_cell_arr (cA := cA.1) (P := P) (rg_sa h2 (mm_ad_lt ho).2.2)
    rw [h3] at this
    exact this
  refine ⟨fun i hi => ?_, fun q => if a < q ∧ (mm_ad k (q - a)).isSome = true then (a, q - a) else own q, fun b o x hx => ?_⟩
  · rw [← hz i hi]
    exact if_neg (by omega)
  by_cases hba : b = a
  · subst hba
    by_cases ho : o = 0
    · subst ho
      rw [mm_cell_obj hKa' hf, hbs, hlist] at hx
      cases hx
      obtain ⟨h1, h2, h3⟩ := hown _ _ _ c0
      refine ⟨?_, fun _ => h2 (by rw [hKa]; exact hro), mm_at.of rfl (h3.va rfl)⟩
      dsimp only
      rw [if_neg (by omega)]
      exact h1
    · unfold mm_cell at hx
      rw [if_neg ho, hKa'] at hx
      cases had : mm_ad k o with
      | none => rw [had] at hx; cases hx
      | some q =>
        obtain ⟨ek, len, j⟩ := q
        rw [had] at hx
        obtain ⟨h0, hj, h2, h3⟩ := harr o ek len j had
        obtain ⟨g1, g2, g3⟩ := hown _ _ _ (hcarr o ek len j had)
        have hek := (mm_ad_lt had).2.2
        have hjl : j < l.length := (List.getElem?_eq_some_iff.mp hj).1
        have e0 : b = b ∧ 128 * k ≤ 128 * k + j ∧ 128 * k + j < 128 * k + 128 := ⟨rfl, by omega, by omega⟩
        have hat2 : mm_at2 k (128 * k + j - 128 * k) = some (o, ek) := by
          rw [show 128 * k + j - 128 * k = j by omega]
          unfold mm_at2
          rw [hf]
          dsimp only
          rw [hj]
          rfl
        have hA : gA (mm_packP P b k) (128 * k + j) b = gA P (8192 + ek) (b + o) := by
          funext i
          show (if _ then _ else _) = _
          rw [if_pos e0, hat2]
        have hB : gB (mm_packP P b k) (128 * k + j) b = gB P (8192 + ek) (b + o) := by
          funext i
          show (if _ then _ else _) = _
          rw [if_pos e0, hat2]
        have hL : gL (mm_packP P b k) (128 * k + j) b = gL P (8192 + ek) (b + o) := by
          funext i
          show (if _ then _ else _) = _
          rw [if_pos e0, hat2]
        have hxe : x = .inl (cA.1 ek, mm_ac P ek len (8192 + ek) (b + o)) := by
          rw [← Option.some.inj hx]
          unfold mm_ac
          dsimp only
          rw [hA, hB, hL]
        subst hxe
        refine ⟨?_, fun _ => g2 (by rw [h2]; unfold mm_ro; rw [decide_eq_false (by omega), decide_eq_false (by omega)]; rfl), mm_at.of (mm_xt_lt (by rw [hKa']; have := (mm_ad_lt had).1; omega)) (g3.va (mm_xt_lt (by rw [h2]; omega)))⟩
        dsimp only
        rw [show b + o - b = o by omega, had]
        rw [if_pos ⟨by omega, rfl⟩]
  · by_cases hz0 : a ≤ b ∧ (mm_ad k (b - a)).isSome = true
    · exfalso
      have e1 : (mm_packK K a k).1 b = 0 := by
        show (if b = a then k else if _ then 0 else K.1 b) = 0
        rw [if_neg hba, if_pos hz0]
      unfold mm_cell at hx
      rw [e1] at hx
      by_cases ho : o = 0
      · rw [if_pos ho] at hx
        cases hx
      · rw [if_neg ho] at hx
        cases hx
    · have e1 : (mm_packK K a k).1 b = K.1 b := by
        show (if b = a then k else if _ then 0 else K.1 b) = _
        rw [if_neg hba, if_neg hz0]
      have e2 : mm_cell cA.1 (mm_packK K a k) (mm_packP P a k) b o = mm_cell cA.1 K P b o := by
        have hac : ∀ ek m r, mm_ac (mm_packP P a k) ek m r b = mm_ac P ek m r b := by
          intro ek m r
          have h4 : gA (mm_packP P a k) r b = gA P r b := by funext i; exact if_neg (fun z => hba z.1)
          have h5 : gB (mm_packP P a k) r b = gB P r b := by funext i; exact if_neg (fun z => hba z.1)
          have h6 : gL (mm_packP P a k) r b = gL P r b := by funext i; exact if_neg (fun z => hba z.1)
          unfold mm_ac
          rw [h4, h5, h6]
        have hfs : ∀ l c, mm_fs (mm_packP P a k) b c l = mm_fs P b c l := fun l c => mm_fs_eq (fun i e _ => by
          have h1 : gI (mm_packP P a k) (c + i) b = gI P (c + i) b := if_neg (fun z => hba z.1)
          have h2 : gR (mm_packP P a k) (c + i) b = gR P (c + i) b := if_neg (fun z => hba z.1)
          have h3 : gJ (mm_packP P a k) (c + i) b = gJ P (c + i) b := if_neg (fun z => hba z.1)
          unfold mm_fv
          rw [h1, h2, h3])
        unfold mm_cell
        rw [e1]
        by_cases ho : o = 0
        · rw [if_pos ho, if_pos ho]
          cases hf' : mm_fd (K.1 b) with
          | some l => dsimp only; rw [hfs]
          | none => dsimp only; congr 1; funext ek; rw [hac]; rfl
        · rw [if_neg ho, if_neg ho]
          congr 1
          funext q
          rw [hac]
      rw [e2] at hx
      obtain ⟨g1, g2, g3⟩ := hown _ _ _ hx
      refine ⟨?_, by rw [e1]; exact g2, by rw [e1]; exact g3⟩
      dsimp only
      by_cases hcase : a < b + o ∧ (mm_ad k (b + o - a)).isSome = true
      · exfalso
        obtain ⟨q, hq⟩ := Option.isSome_iff_exists.mp hcase.2
        obtain ⟨ek, len, j⟩ := q
        have g4 := (hown _ _ _ (hcarr _ ek len j hq)).1
        rw [show a + (b + o - a) + 0 = b + o by omega, g1] at g4
        injection g4 with g5 g6
        exact hz0 ⟨by omega, by rw [show b - a = b + o - a by omega]; exact hcase.2⟩
      · rw [if_neg hcase]
        exact g1
section PACK
variable {α : Type} {E : mm_E} {own : String} {cc : ByteArray} {nL : Nat} {ret : Option FieldType} {FR LC : Nat} {w : α → mm_O} {pc : Nat} {ls : List (Option Value)} {st : List Value} {K : mm_K} {P : mm_P} {nx sl : Nat} {f : Option α}
theorem r_pack {a k : Nat} {l : List mm_F} (hf : mm_fd k = some l) (hk : 1 ≤ k ∧ k < 7 ∨ 10 < k ∧ k < 22) (hraw : mm_fd (32 + k) = some (l.map mm_raw)) (hro : mm_ro (32 + k) = false) (kk : mm_V E w pc ls st (mm_packK K a k) (mm_packP P a k) nx sl f) : mm_V E w pc ls st K P nx sl (mm_gd (mm_pok K P a k = true) f) := by
  refine r_gd fun h => ?_
  intro out ho H locs la hI
  obtain ⟨hls, hW, hr⟩ := hI
  exact kk out ho H locs la ⟨hls, hW.pack h hf hk hraw hro, hr⟩
theorem r_gets (C : mm_Cx E own cc nL ret FR LC) {index : Nat} {Cn n d : String} {v : Value} (hZ : va_Z Cn n d v (eA E) (eS E) (eS E).heap) (hl : Cond.fieldLink own index Cn n d ∈ lw_all) (dd : decode cc pc = .ok (.getstatic index, 3)) (kk : mm_V E w (pc + 3) ls (v :: st) K P nx sl f) : mm_V E w pc ls st K P nx sl f := fun out ho H locs la hI => va_gets C.x C.b hZ hI.2.2.2.2.2.1 C.ow (C.ts _ hl) (fun x hx => hx) dd (kk out ho H locs la hI)
/-- a static reference, as the memory keeps it (places 1 to 4) -/
theorem r_getsR (C : mm_Cx E own cc nL ret FR LC) {index i : Nat} {Cn n d : String} (hZ : va_Z Cn n d (va_rf ((eF E).2.1 i)) (eA E) (eS E) (eS E).heap) (hi : i < 128) (hl : Cond.fieldLink own index Cn n d ∈ lw_all) (dd : decode cc pc = .ok (.getstatic index, 3)) (kk : mm_V E w (pc + 3) ls (va_rf (gR P i 0) :: st) K P nx sl f) : mm_V E w pc ls st K P nx sl f := by
  intro out ho H locs la hI
  have h := kk out ho H locs la hI
  rw [hI.2.1.1 i hi] at h
  exact va_gets C.x C.b hZ hI.2.2.2.2.2.1 C.ow (C.ts _ hl) (fun x hx => hx) dd h
end PACK
