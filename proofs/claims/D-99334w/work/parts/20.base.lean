/-! THE BASE: an abstract memory of the claim's own objects (fields by class code and owner, arrays by region and owner), the judgement mm_V over it. -/
set_option maxRecDepth 100000
abbrev mm_P : Type := (Nat → Nat → Int32) × (Nat → Nat → Option Nat) × (Nat → Nat → Int64) × (Nat → Nat → Nat → Int32) × (Nat → Nat → Nat → Option Nat) × (Nat → Nat → Nat → Int64)
/-- class codes, lengths of standalone arrays, by address -/
abbrev mm_K : Type := (Nat → Nat) × (Nat → Nat)
def gI (P : mm_P) (c a : Nat) : Int32 := P.1 c a
def gR (P : mm_P) (c a : Nat) : Option Nat := P.2.1 c a
def gJ (P : mm_P) (c a : Nat) : Int64 := P.2.2.1 c a
def gA (P : mm_P) (r a i : Nat) : Int32 := P.2.2.2.1 r a i
def gB (P : mm_P) (r a i : Nat) : Option Nat := P.2.2.2.2.1 r a i
def gL (P : mm_P) (r a i : Nat) : Int64 := P.2.2.2.2.2 r a i
def sI (P : mm_P) (c a : Nat) (v : Int32) : mm_P := (fun c' a' => if c' = c ∧ a' = a then v else P.1 c' a', P.2)
def sR (P : mm_P) (c a : Nat) (v : Option Nat) : mm_P := (P.1, fun c' a' => if c' = c ∧ a' = a then v else P.2.1 c' a', P.2.2)
def sJ (P : mm_P) (c a : Nat) (v : Int64) : mm_P := (P.1, P.2.1, fun c' a' => if c' = c ∧ a' = a then v else P.2.2.1 c' a', P.2.2.2)
def sA (P : mm_P) (r a i : Nat) (v : Int32) : mm_P := (P.1, P.2.1, P.2.2.1, fun r' a' i' => if r' = r ∧ a' = a ∧ i' = i then v else P.2.2.2.1 r' a' i', P.2.2.2.2)
def sB (P : mm_P) (r a i : Nat) (v : Option Nat) : mm_P := (P.1, P.2.1, P.2.2.1, P.2.2.2.1, fun r' a' i' => if r' = r ∧ a' = a ∧ i' = i then v else P.2.2.2.2.1 r' a' i', P.2.2.2.2.2)
def sL (P : mm_P) (r a i : Nat) (v : Int64) : mm_P := (P.1, P.2.1, P.2.2.1, P.2.2.2.1, P.2.2.2.2.1, fun r' a' i' => if r' = r ∧ a' = a ∧ i' = i then v else P.2.2.2.2.2 r' a' i')
def mm_T0 : u_T := fun _ => ("", "", "I", false)
/-- the classes, by code (1 PegLaws 2 Reader 3 Rope 4 State 5 PegLawsModel 6 Wrong 7 Cloth 8 Sheet 9 Flag 10 Wool 11 Given 12 Fact 13 Not 14 Two 15 Blown 16 Bought 17 Taken 18 Washed 19 Hung 20 Mark 21 ArrayList 22 String 23 StringBuilder 24 NoSuchElementException) -/
def mm_cl : List vw_C := [(RX1, TX1, 26), (RX1, TX1, 26), (RX2, TX2, 8), (RX3, TX3, 11), (RX4, TX4, 6), (RX5, TX5, 38), (RX6, TX6, 7), (RX7, TX7, 4), (RX8, TX8, 4), (RX9, TX9, 4), (RX10, TX10, 4), (RX12, TX12, 1), (RX13, TX13, 1), (RX14, TX14, 1), (RX15, TX15, 3), (RX17, mm_T0, 0), (RX18, TX18, 1), (RX19, TX19, 1), (RX20, TX20, 1), (RX21, TX21, 2), (RX22, TX22, 5), (RJ2, TJ2, 3), (RJ3, TJ3, 4), (RJ13, TJ13, 4), (RJ18, TJ18, 6), (RJ3, TJ3, 2), (RJ18, mm_T0, 0)]
/-- a field: kind (0 int, 1 a reference, 2 an array at that offset behind the object, 3 long, 4 a reference to what lies at that offset behind the thing kept), offset, the array's element kind, its length -/
abbrev mm_F : Type := Nat × Nat × Nat × Nat
def mm_i : mm_F := (0, 0, 0, 0)
def mm_r : mm_F := (1, 0, 0, 0)
def mm_j : mm_F := (3, 0, 0, 0)
def mm_a (off ek len : Nat) : mm_F := (2, off, ek, len)
/-- the fields of a class code; raw ones (32 + k): every array field a reference -/
def mm_fd (k : Nat) : Option (List mm_F) := match k with
  | 1 => some [mm_a 1 1 1000, mm_r, mm_r, mm_r, mm_r, mm_r, mm_a 20 0 3, mm_i, mm_a 21 5 16, mm_i, mm_a 22 0 6, mm_a 23 0 6, mm_a 24 0 6, mm_i, mm_a 25 5 8, mm_a 26 0 6, mm_a 27 0 6, mm_i, mm_i, mm_a 28 0 8, mm_a 29 0 8, mm_a 30 0 8, mm_i, mm_a 31 0 10, mm_j, mm_a 32 6 4]
  | 2 => some [(4, 1, 0, 0), mm_i, mm_i, mm_i, mm_i, mm_i, mm_i, mm_r]
  | 3 => some [mm_r, mm_a 3 0 8, mm_a 4 0 12, mm_a 5 0 6, mm_i, mm_i, mm_i, mm_i, mm_i, mm_r, mm_r]
  | 4 => some [mm_a 1 0 8, mm_a 2 0 8, mm_a 3 0 6, mm_a 4 0 6, mm_i, mm_i]
  | 5 => some [mm_i, mm_a 1 0 1000, mm_i, mm_i, mm_a 2 0 1002, mm_a 3 0 1002, mm_a 4 2 1002, mm_i, mm_i, mm_a 5 2 26, mm_a 6 0 200, mm_a 7 0 2200, mm_a 8 0 2200, mm_i, mm_a 9 2 6, mm_a 10 2 6, mm_i, mm_i, mm_i, mm_a 11 0 200, mm_a 12 0 3, mm_a 13 0 1100, mm_a 14 0 1242, mm_i, mm_a 15 3 4, mm_a 16 0 6, mm_a 17 0 6, mm_a 18 0 6, mm_i, mm_i, mm_a 19 0 72, mm_a 20 0 36, mm_a 21 0 6, mm_a 22 0 6, mm_i, mm_i, mm_a 23 0 10, mm_j]
  | 6 => some [mm_r, mm_r, mm_r, mm_r, mm_r, mm_i, mm_i]
  | 7 => some [mm_r, mm_i, mm_i, mm_i]
  | 8 => some [mm_r, mm_i, mm_i, mm_i]
  | 9 => some [mm_r, mm_i, mm_i, mm_i]
  | 10 => some [mm_r, mm_i, mm_i, mm_i]
  | 11 => some [mm_i]
  | 12 => some [mm_i]
  | 13 => some [mm_r]
  | 14 => some [mm_i, mm_r, mm_r]
  | 15 => some []
  | 16 => some [mm_i]
  | 17 => some [mm_i]
  | 18 => some [mm_i]
  | 19 => some [mm_i, mm_i]
  | 20 => some [mm_r, mm_a 6 0 8, mm_a 7 0 8, mm_a 8 0 8, mm_i]
  | 21 => some [mm_i, mm_r, mm_i]
  | 22 => some [mm_r, mm_i, mm_i, mm_i]
  | 23 => some [mm_r, mm_i, mm_i, mm_i]
  | 24 => some [mm_r, mm_r, mm_r, mm_r, mm_r, mm_i]
  | 33 => some [mm_r, mm_r, mm_r, mm_r, mm_r, mm_r, mm_r, mm_i, mm_r, mm_i, mm_r, mm_r, mm_r, mm_i, mm_r, mm_r, mm_r, mm_i, mm_i, mm_r, mm_r, mm_r, mm_i, mm_r, mm_j, mm_r]
  | 35 => some [mm_r, mm_r, mm_r, mm_r, mm_i, mm_i, mm_i, mm_i, mm_i, mm_r, mm_r]
  | 36 => some [mm_r, mm_r, mm_r, mm_r, mm_i, mm_i]
  | 37 => some [mm_i, mm_r, mm_i, mm_i, mm_r, mm_r, mm_r, mm_i, mm_i, mm_r, mm_r, mm_r, mm_r, mm_i, mm_r, mm_r, mm_i, mm_i, mm_i, mm_r, mm_r, mm_r, mm_r, mm_i, mm_r, mm_r, mm_r, mm_r, mm_i, mm_i, mm_r, mm_r, mm_r, mm_r, mm_i, mm_i, mm_r, mm_j]
  | 52 => some [mm_r, mm_r, mm_r, mm_r, mm_i]
  | 54 => some [mm_r, mm_i]
  | 55 => some []
  | _ => none
/-- the class of an object's code -/
def mm_ci (k : Nat) : Nat := if k = 54 then 25 else if k = 55 then 26 else if k < 32 then k else k - 32
/-- what nobody writes: constant Strings (54), arrays 80 and on -/
def mm_ro (k : Nat) : Bool := decide (k = 54) || decide (80 ≤ k)
/-- a standalone array's element kind: 0 int 1 byte 2 long 3 boolean 4 Object 5 State 6 Mark -/
def mm_ar (k : Nat) : Option Nat := if 64 ≤ k ∧ k < 71 then some (k - 64) else if 80 ≤ k ∧ k < 82 then some (k - 80) else none
/-- where the codes of a class's fields begin (Sheet, Flag, Wool: as Cloth) -/
def mm_bs (k : Nat) : Nat := if 8 ≤ k ∧ k ≤ 10 then 896 else if k = 54 then 2816 else 128 * k
def mm_find (off : Nat) : Nat → List mm_F → Option (Nat × Nat × Nat)
  | _, [] => none
  | j, d :: ds => if d.1 = 2 ∧ d.2.1 = off then some (d.2.2.1, d.2.2.2, j) else mm_find off (j + 1) ds
def mm_ad (k off : Nat) : Option (Nat × Nat × Nat) := match mm_fd k with
  | none => none
  | some l => mm_find off 0 l
def mm_fv (P : mm_P) (a c : Nat) (d : mm_F) : Value := match d.1 with
  | 0 => .int (gI P c a)
  | 1 => va_rf (gR P c a)
  | 2 => .ref (a + d.2.1)
  | 3 => .long (gJ P c a)
  | _ => va_rf ((gR P c a).map (fun x => x + d.2.1))
def mm_fs (P : mm_P) (a : Nat) : Nat → List mm_F → List Value
  | _, [] => []
  | c, d :: ds => mm_fv P a c d :: mm_fs P a (c + 1) ds
/-- an array's content -/
def mm_ac (P : mm_P) (ek n r a : Nat) : vp_A := (n, if ek = 2 then .inr (.inl (gL P r a)) else if ek < 4 then .inl (gA P r a) else .inr (.inr (.inr (.inr (gB P r a)))))
def mm_cell (cA : Nat → ClassId) (K : mm_K) (P : mm_P) (a off : Nat) : Option va_E :=
  if off = 0 then
    match mm_fd (K.1 a) with
    | some l => some (.inr (mm_ci (K.1 a), mm_fs P a (mm_bs (K.1 a)) l))
    | none => (mm_ar (K.1 a)).map (fun ek => .inl (cA ek, mm_ac P ek (K.2 a) (8192 + ek) a))
  else (mm_ad (K.1 a) off).map (fun q => .inl (cA q.1, mm_ac P q.1 q.2.1 (128 * K.1 a + q.2.2) a))
/-- array classes by element kind; references that statics hold: 1 ArrayList.EMPTY_ELEMENTDATA 2 ArrayList.DEFAULTCAPACITY_EMPTY_ELEMENTDATA 3 Throwable.UNASSIGNED_STACK 4 Throwable.SUPPRESSED_SENTINEL; which cells are arrays of an element kind that stood before -/
abbrev mm_G : Type := (Nat → ClassId) × (Nat → Option Nat) × (Nat → Cell → Prop)
/-- a cell that is known exactly: all but the arrays that stood before (codes 80, 81) -/
def mm_xt (k : Nat) (e : va_E) : Bool := match e with
  | .inr _ => true
  | .inl _ => decide (k < 80)
theorem mm_xt_lt {k : Nat} {e : va_E} (h : k < 80) : mm_xt k e = true := by
  cases e with
  | inl x => exact decide_eq_true h
  | inr x => rfl
theorem mm_ro_lt {k : Nat} (h : mm_ro k = false) : k < 80 := by
  unfold mm_ro at h
  simp at h
  exact h.2
theorem mm_xt_ro {k : Nat} {e : va_E} (h : mm_ro k = false) : mm_xt k e = true := mm_xt_lt (mm_ro_lt h)
def mm_at (D : va_G) (L : Nat → Cell → Prop) (k : Nat) (q : Nat × va_E) (H : Heap) : Prop :=
  if mm_xt k q.2 = true then va_at D mm_cl q H else ∃ (cell : Cell) (x : ClassId × vp_A), q.2 = .inl x ∧ H[q.1]? = some cell ∧ L (k - 80) cell ∧ cell.vm ≠ .unknown ∧ cell.slots = (vp_cell x.1 x.2).slots
theorem mm_at.va {D : va_G} {L : Nat → Cell → Prop} {k : Nat} {q : Nat × va_E} {H : Heap} (h : mm_at D L k q H) (hx : mm_xt k q.2 = true) : va_at D mm_cl q H := by
  unfold mm_at at h
  rw [if_pos hx] at h
  exact h
theorem mm_at.of {D : va_G} {L : Nat → Cell → Prop} {k : Nat} {q : Nat × va_E} {H : Heap} (hx : mm_xt k q.2 = true) (h : va_at D mm_cl q H) : mm_at D L k q H := by
  unfold mm_at
  rw [if_pos hx]
  exact h
theorem mm_at.kept {D : va_G} {L : Nat → Cell → Prop} {k : Nat} {q : Nat × va_E} {H H1 : Heap} (h : mm_at D L k q H) (hq : H1[q.1]? = H[q.1]?) : mm_at D L k q H1 := by
  unfold mm_at at h ⊢
  by_cases hx : mm_xt k q.2 = true
  · rw [if_pos hx] at h ⊢
    exact h.kept hq
  · rw [if_neg hx] at h ⊢
    obtain ⟨cell, x, h0, h1, h2⟩ := h
    exact ⟨cell, x, h0, hq.trans h1, h2⟩
theorem mm_at.lt {D : va_G} {L : Nat → Cell → Prop} {k : Nat} {q : Nat × va_E} {H : Heap} (h : mm_at D L k q H) : q.1 < H.size := by
  unfold mm_at at h
  by_cases hx : mm_xt k q.2 = true
  · rw [if_pos hx] at h
    exact h.lt
  · rw [if_neg hx] at h
    obtain ⟨cell, x, h0, h1, h2⟩ := h
    exact (Array.getElem?_eq_some_iff.mp h1).1
/-- the heap holds the memory; no two things share a cell; what may be written lies in A0 -/
def mm_W (D : va_G) (cA : mm_G) (A0 : Nat → Prop) (K : mm_K) (P : mm_P) (H : Heap) : Prop :=
  (∀ i, i < 128 → gR P i 0 = cA.2.1 i) ∧ ∃ own : Nat → Nat × Nat, ∀ a off e, mm_cell cA.1 K P a off = some e → own (a + off) = (a, off) ∧ (mm_ro (K.1 a) = false → A0 (a + off)) ∧ mm_at D cA.2.2 (K.1 a) (a + off, e) H
def mm_ety (ek : Nat) : FieldType := match ek with
  | 0 => .int
  | 1 => .byte
  | 2 => .long
  | 3 => .boolean
  | 4 => .object "java/lang/Object"
  | 5 => .object "PegLaws$State"
  | _ => .object "PegLaws$Mark"
def mm_tys (cA : Nat → ClassId) : List (ClassId × FieldType) := [(cA 0, mm_ety 0), (cA 1, mm_ety 1), (cA 2, mm_ety 2), (cA 3, mm_ety 3), (cA 4, mm_ety 4), (cA 5, mm_ety 5), (cA 6, mm_ety 6)]
theorem mm_tys_at {cA : Nat → ClassId} {ek : Nat} (h : ek < 7) : (mm_tys cA)[ek]? = some (cA ek, mm_ety ek) := by
  match ek, h with
  | 0, _ => rfl
  | 1, _ => rfl
  | 2, _ => rfl
  | 3, _ => rfl
  | 4, _ => rfl
  | 5, _ => rfl
  | 6, _ => rfl
/-! lists of fields -/
theorem mm_fs_at (P : mm_P) (a : Nat) : ∀ (l : List mm_F) (c i : Nat), (mm_fs P a c l)[i]? = (l[i]?).map (mm_fv P a (c + i)) := by
  intro l
  induction l with
  | nil => intro c i; simp [mm_fs]
  | cons d ds ih =>
    intro c i
    cases i with
    | zero => simp [mm_fs]
    | succ i =>
      show (mm_fs P a (c + 1) ds)[i]? = _
      rw [ih (c + 1) i, List.getElem?_cons_succ, show c + 1 + i = c + (i + 1) by omega]
theorem mm_fs_len (P : mm_P) (a : Nat) : ∀ (l : List mm_F) (c : Nat), (mm_fs P a c l).length = l.length := by
  intro l
  induction l with
  | nil => intro c; rfl
  | cons d ds ih => intro c; show (mm_fs P a (c + 1) ds).length + 1 = _; rw [ih]; rfl
/-- one field changes -/
theorem mm_fs_set {P P' : mm_P} {a c j : Nat} {l : List mm_F} {v : Value} {d : mm_F} (hj : l[j]? = some d) (hv : mm_fv P' a (c + j) d = v) (ho : ∀ i e, i ≠ j → l[i]? = some e → mm_fv P' a (c + i) e = mm_fv P a (c + i) e) : mm_fs P' a c l = (mm_fs P a c l).set j v := by
  apply List.ext_getElem?
  intro i
  rw [mm_fs_at]
  by_cases hij : i = j
  · subst hij
    have hl : i < (mm_fs P a c l).length := by rw [mm_fs_len]; exact (List.getElem?_eq_some_iff.mp hj).1
    rw [List.getElem?_set_self hl, hj, Option.map_some, hv]
  · rw [List.getElem?_set_ne (fun q => hij q.symm), mm_fs_at]
    cases he : l[i]? with
    | none => rfl
    | some e => rw [Option.map_some, Option.map_some, ho i e hij he]
theorem mm_fs_eq {P P' : mm_P} {a c : Nat} {l : List mm_F} (ho : ∀ i e, l[i]? = some e → mm_fv P' a (c + i) e = mm_fv P a (c + i) e) : mm_fs P' a c l = mm_fs P a c l := by
  apply List.ext_getElem?
  intro i
  rw [mm_fs_at, mm_fs_at]
  cases he : l[i]? with
  | none => rfl
  | some e => rw [Option.map_some, Option.map_some, ho i e he]
theorem mm_find_spec {off : Nat} : ∀ (l : List mm_F) (j0 ek len j : Nat), mm_find off j0 l = some (ek, len, j) → ∃ i, j = j0 + i ∧ l[i]? = some (2, off, ek, len) := by
  intro l
  induction l with
  | nil => intro j0 ek len j h; cases h
  | cons d ds ih =>
    intro j0 ek len j h
    obtain ⟨d1, d2, d3, d4⟩ := d
    unfold mm_find at h
    by_cases hc : d1 = 2 ∧ d2 = off
    · rw [if_pos hc] at h
      injection h with h
      injection h with h1 h
      injection h with h2 h3
      obtain ⟨rfl, rfl⟩ := hc
      subst h1; subst h2; subst h3
      exact ⟨0, rfl, rfl⟩
    · rw [if_neg hc] at h
      obtain ⟨i, e1, e2⟩ := ih _ _ _ _ h
      exact ⟨i + 1, by omega, e2⟩
theorem mm_ad_spec {k off ek len j : Nat} (h : mm_ad k off = some (ek, len, j)) : ∃ l, mm_fd k = some l ∧ l[j]? = some (2, off, ek, len) := by
  unfold mm_ad at h
  cases hf : mm_fd k with
  | none => rw [hf] at h; cases h
  | some l =>
    rw [hf] at h
    obtain ⟨i, e1, e2⟩ := mm_find_spec l 0 ek len j h
    exact ⟨l, rfl, by rw [e1, Nat.zero_add]; exact e2⟩
/-! what a change of the memory does to the cells -/
/-- a change of one int, reference or long field: only its own object's cell changes -/
theorem mm_cell_fld {cA : Nat → ClassId} {K : mm_K} {P P' : mm_P} {c a : Nat} (h1 : ∀ x y, (x ≠ c ∨ y ≠ a) → gI P' x y = gI P x y) (h2 : ∀ x y, (x ≠ c ∨ y ≠ a) → gR P' x y = gR P x y) (h3 : ∀ x y, (x ≠ c ∨ y ≠ a) → gJ P' x y = gJ P x y) (h4 : gA P' = gA P) (h5 : gB P' = gB P) (h6 : gL P' = gL P) (b o : Nat) (hne : ¬ (b = a ∧ o = 0)) : mm_cell cA K P' b o = mm_cell cA K P b o := by
  have hac : ∀ ek n r z, mm_ac P' ek n r z = mm_ac P ek n r z := fun ek n r z => by unfold mm_ac; rw [h4, h5, h6]
  unfold mm_cell
  by_cases ho : o = 0
  · have hb : b ≠ a := fun q => hne ⟨q, ho⟩
    rw [if_pos ho, if_pos ho]
    cases hf : mm_fd (K.1 b) with
    | some l =>
      dsimp only
      rw [mm_fs_eq (P := P) (P' := P')]
      intro i e _
      unfold mm_fv
      rw [h1 _ b (Or.inr hb), h2 _ b (Or.inr hb), h3 _ b (Or.inr hb)]
    | none => dsimp only; congr 1; funext ek; rw [hac]
  · rw [if_neg ho, if_neg ho]
    congr 1
    funext q
    rw [hac]
theorem mm_fv_fld {P P' : mm_P} {c a : Nat} (h1 : ∀ x y, (x ≠ c ∨ y ≠ a) → gI P' x y = gI P x y) (h2 : ∀ x y, (x ≠ c ∨ y ≠ a) → gR P' x y = gR P x y) (h3 : ∀ x y, (x ≠ c ∨ y ≠ a) → gJ P' x y = gJ P x y) {c' : Nat} (hc : c' ≠ c) (e : mm_F) : mm_fv P' a c' e = mm_fv P a c' e := by
  unfold mm_fv
  rw [h1 c' a (Or.inl hc), h2 c' a (Or.inl hc), h3 c' a (Or.inl hc)]
/-- .. and that one changes as the list of its fields does -/
theorem mm_cell_set {cA : Nat → ClassId} {K : mm_K} {P P' : mm_P} {k a j : Nat} {l : List mm_F} {d : mm_F} {v : Value} (hk : K.1 a = k) (hf : mm_fd k = some l) (hj : l[j]? = some d) (hv : mm_fv P' a (mm_bs k + j) d = v) (h1 : ∀ x y, (x ≠ mm_bs k + j ∨ y ≠ a) → gI P' x y = gI P x y) (h2 : ∀ x y, (x ≠ mm_bs k + j ∨ y ≠ a) → gR P' x y = gR P x y) (h3 : ∀ x y, (x ≠ mm_bs k + j ∨ y ≠ a) → gJ P' x y = gJ P x y) :
    mm_cell cA K P' a 0 = some (.inr (mm_ci k, (mm_fs P a (mm_bs k) l).set j v)) := by
  unfold mm_cell
  rw [if_pos rfl, hk, hf]
  dsimp only
  rw [mm_fs_set (P := P) hj hv (fun i e hij _ => mm_fv_fld h1 h2 h3 (by omega) e)]
theorem mm_cell_obj {cA : Nat → ClassId} {K : mm_K} {P : mm_P} {k a : Nat} {l : List mm_F} (hk : K.1 a = k) (hf : mm_fd k = some l) : mm_cell cA K P a 0 = some (.inr (mm_ci k, mm_fs P a (mm_bs k) l)) := by
  unfold mm_cell
  rw [if_pos rfl, hk, hf]
/-- a region: the array field j of the class k (r = 128 k + j), or a standalone array (r = 8192 + ek) -/
def mm_reg (K : mm_K) (r a off ek n : Nat) : Prop := (∃ k j, r = 128 * k + j ∧ K.1 a = k ∧ off ≠ 0 ∧ mm_ad k off = some (ek, n, j)) ∨ (r = 8192 + ek ∧ off = 0 ∧ mm_fd (K.1 a) = none ∧ mm_ar (K.1 a) = some ek ∧ n = K.2 a)
theorem mm_cell_arr {cA : Nat → ClassId} {K : mm_K} {P : mm_P} {r a off ek n : Nat} (h : mm_reg K r a off ek n) : mm_cell cA K P a off = some (.inl (cA ek, mm_ac P ek n r a)) := by
  unfold mm_cell
  rcases h with ⟨k, j, rfl, hk, ho, had⟩ | ⟨rfl, rfl, hf, har, rfl⟩
  · rw [if_neg ho, hk, had]
    rfl
  · rw [if_pos rfl, hf, har]
    rfl
theorem mm_ad_lt {k off ek n j : Nat} (h : mm_ad k off = some (ek, n, j)) : k < 64 ∧ j < 64 ∧ ek < 7 := by
  have hk : k < 64 := by
    rcases Nat.lt_or_ge k 64 with q | q
    · exact q
    · exfalso
      obtain ⟨l, hl, -⟩ := mm_ad_spec h
      have : mm_fd k = none := by
        unfold mm_fd
        split <;> first | rfl | omega
      rw [this] at hl; cases hl
  obtain ⟨l, hl, hj⟩ := mm_ad_spec h
  have key : ∀ k, k < 64 → ∀ l, mm_fd k = some l → l.length < 64 ∧ l.all (fun d => decide (d.2.2.1 < 7)) = true := by
    intro k hk
    have : ∀ k, k < 64 → (match mm_fd k with | none => true | some l => decide (l.length < 64) && l.all (fun d => decide (d.2.2.1 < 7))) = true := by decide +kernel
    intro l hl
    have h := this k hk
    rw [hl] at h
    simpa using h
  obtain ⟨a1, a2⟩ := key k hk l hl
  refine ⟨hk, Nat.lt_trans (List.getElem?_eq_some_iff.mp hj).1 a1, ?_⟩
  have := List.all_eq_true.mp a2 _ (List.mem_of_getElem? hj)
  simpa using this
theorem mm_ar_lt {k ek : Nat} (h : mm_ar k = some ek) : ek < 7 := by
  unfold mm_ar at h
  split at h
  · injection h; omega
  · split at h
    · injection h; omega
    · cases h
theorem mm_reg_lt {K : mm_K} {r a off ek n : Nat} (h : mm_reg K r a off ek n) : ek < 7 := by
  rcases h with ⟨k, j, rfl, hk, ho, had⟩ | ⟨rfl, rfl, hf, har, rfl⟩
  · exact (mm_ad_lt had).2.2
  · exact mm_ar_lt har
/-- a change of one array: only its own cell changes -/
theorem mm_cell_ast {cA : Nat → ClassId} {K : mm_K} {P P' : mm_P} {r a off ek n : Nat} (h : mm_reg K r a off ek n) (h1 : gI P' = gI P) (h2 : gR P' = gR P) (h3 : gJ P' = gJ P) (h4 : ∀ x y, (x ≠ r ∨ y ≠ a) → gA P' x y = gA P x y) (h5 : ∀ x y, (x ≠ r ∨ y ≠ a) → gB P' x y = gB P x y) (h6 : ∀ x y, (x ≠ r ∨ y ≠ a) → gL P' x y = gL P x y) (b o : Nat) (hne : ¬ (b = a ∧ o = off)) : mm_cell cA K P' b o = mm_cell cA K P b o := by
  have hac : ∀ ek n x z, (x ≠ r ∨ z ≠ a) → mm_ac P' ek n x z = mm_ac P ek n x z := fun ek n x z hz => by unfold mm_ac; rw [h4 x z hz, h5 x z hz, h6 x z hz]
  have hfs : ∀ l c z, mm_fs P' z c l = mm_fs P z c l := fun l c z => mm_fs_eq (fun i e _ => by unfold mm_fv; rw [h1, h2, h3])
  unfold mm_cell
  by_cases ho : o = 0
  · rw [if_pos ho, if_pos ho]
    cases hf : mm_fd (K.1 b) with
    | some l => dsimp only; rw [hfs]
    | none =>
      dsimp only
      cases har : mm_ar (K.1 b) with
      | none => rfl
      | some ek' =>
        rw [Option.map_some, Option.map_some, hac]
        rcases h with ⟨k, j, rfl, hk, ho', had⟩ | ⟨rfl, rfl, hf', har', rfl⟩
        · left
          have := mm_ad_lt had
          omega
        · right
          exact fun q => hne ⟨q, ho⟩
  · rw [if_neg ho, if_neg ho]
    cases had' : mm_ad (K.1 b) o with
    | none => rfl
    | some q =>
      obtain ⟨ek', n', j'⟩ := q
      rw [Option.map_some, Option.map_some]
      dsimp only
      rw [hac]
      rcases h with ⟨k, j, rfl, hk, ho', had⟩ | ⟨rfl, rfl, hf', har', rfl⟩
      · by_cases hb : b = a
        · left
          subst hb
          rw [hk] at had' ⊢
          intro e
          have hj : j' = j := by omega
          subst hj
          obtain ⟨l, hl, e1⟩ := mm_ad_spec had
          obtain ⟨l2, hl2, e2⟩ := mm_ad_spec had'
          rw [hl] at hl2
          cases hl2
          rw [e1] at e2
          injection e2 with e2
          injection e2 with _ e2
          injection e2 with e2 _
          exact hne ⟨rfl, e2.symm⟩
        · right; exact hb
      · left
        have := mm_ad_lt had'
        have := mm_ar_lt har'
        omega
/-- one cell of the heap is written -/
theorem mm_W.put {D : va_G} {cA : mm_G} {A0 : Nat → Prop} {K : mm_K} {P P' : mm_P} {H H' : Heap} (hW : mm_W D cA A0 K P H) (hz : ∀ i, i < 128 → gR P' i 0 = gR P i 0) {a off : Nat} {e e' : va_E} (he : mm_cell cA.1 K P a off = some e) (hc : mm_cell cA.1 K P' a off = some e') (hne : ∀ b o, ¬ (b = a ∧ o = off) → mm_cell cA.1 K P' b o = mm_cell cA.1 K P b o) (hat : va_at D mm_cl (a + off, e') H') (oq : ∀ q : Nat, q ≠ a + off → H'[q]? = H[q]?) (hx : mm_xt (K.1 a) e' = true := by rfl) : mm_W D cA A0 K P' H' := by
  obtain ⟨hz0, own, hown⟩ := hW
  refine ⟨fun i hi => (hz i hi).trans (hz0 i hi), own, fun b o x hxx => ?_⟩
  by_cases h : b = a ∧ o = off
  · obtain ⟨rfl, rfl⟩ := h
    rw [hc] at hxx
    cases hxx
    obtain ⟨h1, h2, -⟩ := hown _ _ _ he
    exact ⟨h1, h2, mm_at.of hx hat⟩
  · rw [hne b o h] at hxx
    obtain ⟨h1, h2, h3⟩ := hown _ _ _ hxx
    refine ⟨h1, h2, h3.kept (oq _ ?_)⟩
    intro q
    have := (hown _ _ _ he).1
    dsimp only at q
    rw [← q, h1] at this
    injection this with e1 e2
    exact h ⟨e1, e2⟩
theorem mm_bs_ge {k : Nat} {l : List mm_F} (h : mm_fd k = some l) : 128 ≤ mm_bs k := by
  have hk : k ≠ 0 := by
    intro e
    subst e
    cases h
  unfold mm_bs
  split
  · omega
  · split <;> omega
/-- what the context knows: the classes, the arrays that stood before -/
def mm_KK (D : va_G) (cA : mm_G) (U : State) : Prop := va_K D mm_cl (mm_tys cA.1) U ∧ ∀ ek c, cA.2.2 ek c → U.isArrayOf c (mm_ety ek)
theorem mm_KK.moved {D : va_G} {cA : mm_G} {u U : State} (hvm : u.vm.Alike U.vm) (h : mm_KK D cA u) : mm_KK D cA U := ⟨h.1.moved hvm, fun ek c hc => State.isArrayOf_alike hvm (h.2 ek c hc)⟩
theorem mm_xt_reg {K : mm_K} {r a off ek n : Nat} {e : va_E} (hr : mm_reg K r a off ek n) (hek : 2 ≤ ek) : mm_xt (K.1 a) e = true := by
  refine mm_xt_lt ?_
  rcases hr with ⟨k, j, rfl, hk, ho, had⟩ | ⟨rfl, rfl, hf, har, rfl⟩
  · have := (mm_ad_lt had).1
    omega
  · unfold mm_ar at har
    split at har
    · omega
    · split at har
      · injection har
        omega
      · cases har
