/-! THE JUDGEMENT mm_V over the abstract memory, and its rows: one an instruction; mm_gd, mm_bd, mm_ob: the partial steps of the functions that the methods are read as. -/
set_option maxRecDepth 100000
abbrev mm_E : Type := Program × Launch × Env × Room × State × MethodId × Array Value × List Frame × Method × Code × va_G × mm_G × (Nat → Prop) × Nat × Nat
abbrev eP (E : mm_E) : Program := E.1
abbrev eL (E : mm_E) : Launch := E.2.1
abbrev eE (E : mm_E) : Env := E.2.2.1
abbrev eR (E : mm_E) : Room := E.2.2.2.1
abbrev eS (E : mm_E) : State := E.2.2.2.2.1
abbrev eM (E : mm_E) : MethodId := E.2.2.2.2.2.1
abbrev eV (E : mm_E) : Array Value := E.2.2.2.2.2.2.1
abbrev eB (E : mm_E) : List Frame := E.2.2.2.2.2.2.2.1
abbrev eT (E : mm_E) : Method := E.2.2.2.2.2.2.2.2.1
abbrev eC (E : mm_E) : Code := E.2.2.2.2.2.2.2.2.2.1
abbrev eD (E : mm_E) : va_G := E.2.2.2.2.2.2.2.2.2.2.1
abbrev eF (E : mm_E) : mm_G := E.2.2.2.2.2.2.2.2.2.2.2.1
abbrev eA (E : mm_E) : Nat → Prop := E.2.2.2.2.2.2.2.2.2.2.2.2.1
abbrev eN (E : mm_E) : Nat := E.2.2.2.2.2.2.2.2.2.2.2.2.2.1
abbrev eO (E : mm_E) : Nat := E.2.2.2.2.2.2.2.2.2.2.2.2.2.2
/-- what a method leaves: its answer, the memory, the heap's size, the slots used so far -/
abbrev mm_O : Type := Option Value × mm_K × mm_P × Nat × Nat
abbrev oV (o : mm_O) : Option Value := o.1
abbrev oK (o : mm_O) : mm_K := o.2.1
abbrev oP (o : mm_O) : mm_P := o.2.2.1
abbrev oN (o : mm_O) : Nat := o.2.2.2.1
abbrev oS (o : mm_O) : Nat := o.2.2.2.2
def mm_Qc (D : va_G) (cA : mm_G) (A0 : Nat → Prop) (o : mm_O) : Array Value → State → Outcome → State → Prop := fun _ st oc t => oc = .returned (oV o) ∧ mm_W D cA A0 (oK o) (oP o) t.heap ∧ t.heap.size = oN o ∧ va_F A0 st t
/-- an outcome with the answer retAddr q: q was thrown -/
def mm_thr (o : mm_O) : Option Nat := match o.1 with
  | some (.retAddr q) => some q
  | _ => none
/-- what a method leaves that throws q -/
def mm_Qt (D : va_G) (cA : mm_G) (A0 : Nat → Prop) (o : mm_O) (q mc ms : Nat) : Array Value → State → Outcome → State → Prop := fun _ st oc t => oc = .threw q ∧ mm_W D cA A0 (oK o) (oP o) t.heap ∧ t.heap.size = oN o ∧ va_F A0 st t ∧ st.WarmedH t.vm ∧ ∃ L : List Loc, st.sameButNew ({ t with vm := st.vm } : State) L mc ms ∧ ∀ z ∈ L, A0 z.base
def mm_Q (E : mm_E) (o : mm_O) : State → Prop := match mm_thr o with
  | some q => fun t => ∃ oc, t.status = .running ∧ Ended t (eB E) oc ∧ mm_Qt (eD E) (eF E) (eA E) o q (oN o - eN E) (oS o - eO E) (eV E) (eS E) oc t
  | none => MQ (eB E) (mm_Qc (eD E) (eF E) (eA E) o) (eV E) (eS E) (oN o - eN E) (oS o - eO E) (eA E)
theorem mm_Q_n {E : mm_E} {o : mm_O} (h : mm_thr o = none) : mm_Q E o = MQ (eB E) (mm_Qc (eD E) (eF E) (eA E) o) (eV E) (eS E) (oN o - eN E) (oS o - eO E) (eA E) := by
  unfold mm_Q
  rw [h]
theorem mm_Q_t {E : mm_E} {o : mm_O} {q : Nat} (h : mm_thr o = some q) : mm_Q E o = fun t => ∃ oc, t.status = .running ∧ Ended t (eB E) oc ∧ mm_Qt (eD E) (eF E) (eA E) o q (oN o - eN E) (oS o - eO E) (eV E) (eS E) oc t := by
  unfold mm_Q
  rw [h]
/-- the locals, by places: what is known of them -/
def mm_ls (la : Array Slot) (nL : Nat) (ls : List (Option Value)) : Prop := la.size = nL ∧ lv_wf la ∧ ∀ (i : Nat) (v : Value), ls[i]? = some (some v) → la[i]? = some (.val v)
def mm_to : Nat → List (Option Value) → List (Nat × Value)
  | _, [] => []
  | i, none :: l => mm_to (i + 1) l
  | i, some v :: l => (i, v) :: mm_to (i + 1) l
theorem mm_to_mem : ∀ (l : List (Option Value)) (i0 i : Nat) (v : Value), (i, v) ∈ mm_to i0 l ↔ ∃ j, i = i0 + j ∧ l[j]? = some (some v) := by
  intro l
  induction l with
  | nil => intro i0 i v; simp [mm_to]
  | cons x l ih =>
    intro i0 i v
    have key : (∃ j, i = i0 + 1 + j ∧ l[j]? = some (some v)) ↔ ∃ j, i = i0 + (j + 1) ∧ l[j]? = some (some v) := by
      constructor <;> rintro ⟨j, h1, h2⟩ <;> exact ⟨j, by omega, h2⟩
    cases x with
    | none =>
      show (i, v) ∈ mm_to (i0 + 1) l ↔ _
      rw [ih, key]
      constructor
      · rintro ⟨j, h1, h2⟩
        exact ⟨j + 1, h1, by simpa using h2⟩
      · rintro ⟨j, h1, h2⟩
        cases j with
        | zero => simp at h2
        | succ j => exact ⟨j, h1, by simpa using h2⟩
    | some y =>
      show (i, v) ∈ (i0, y) :: mm_to (i0 + 1) l ↔ _
      rw [List.mem_cons, ih, key]
      constructor
      · rintro (h | ⟨j, h1, h2⟩)
        · injection h with h1 h2
          exact ⟨0, by omega, by simp [h2]⟩
        · exact ⟨j + 1, h1, by simpa using h2⟩
      · rintro ⟨j, h1, h2⟩
        cases j with
        | zero =>
          left
          simp at h2
          rw [h2, h1]
          rfl
        | succ j => exact Or.inr ⟨j, h1, by simpa using h2⟩
theorem mm_ls.has {la : Array Slot} {nL : Nat} {ls : List (Option Value)} (h : mm_ls la nL ls) : lv_has la nL (mm_to 0 ls) := by
  refine ⟨h.1, h.2.1, fun q hq => ?_⟩
  obtain ⟨i, v⟩ := q
  obtain ⟨j, h1, h2⟩ := (mm_to_mem ls 0 i v).mp hq
  rw [Nat.zero_add] at h1
  subst h1
  exact h.2.2 _ v h2
/-- no long begins just ahead of the place -/
def mm_ok (ls : List (Option Value)) (i : Nat) : Bool := match i with
  | 0 => true
  | j + 1 => match ls[j]? with
    | some (some v) => !(v.category == 2)
    | _ => true
theorem mm_ls.st1 {la : Array Slot} {nL : Nat} {ls : List (Option Value)} {i : Nat} {v : Value} (h : lv_has la nL ((i, v) :: (mm_to 0 ls).filter (fun q => !(q.1 == i) && !(q.1 + 1 == i && q.2.category == 2)))) (hok : mm_ok ls i = true) : mm_ls la nL (ls.set i (some v)) := by
  refine ⟨h.1, h.2.1, fun j x hj => ?_⟩
  by_cases hij : j = i
  · subst hij
    rw [List.getElem?_set_self' ] at hj
    cases hl : ls[j]? with
    | none => rw [hl] at hj; simp at hj
    | some y =>
      rw [hl] at hj
      simp at hj
      subst hj
      exact h.2.2 (j, v) List.mem_cons_self
  · rw [List.getElem?_set_ne (fun q => hij q.symm)] at hj
    refine h.2.2 (j, x) (List.mem_cons_of_mem _ (List.mem_filter.mpr ⟨(mm_to_mem ls 0 j x).mpr ⟨j, by omega, hj⟩, ?_⟩))
    have h1 : (j == i) = false := by simpa using hij
    simp only [h1, Bool.not_false, Bool.true_and, Bool.not_eq_true', Bool.and_eq_false_iff]
    by_cases h2 : j + 1 = i
    · right
      subst h2
      unfold mm_ok at hok
      dsimp only at hok
      rw [hj] at hok
      simpa using hok
    · left
      simpa using h2
theorem mm_ls.st2 {la : Array Slot} {nL : Nat} {ls : List (Option Value)} {i : Nat} {v : Value} (h : lv_has la nL ((i, v) :: (mm_to 0 ls).filter (fun q => !(q.1 == i) && (!(q.1 == i + 1) && !(q.1 + 1 == i && q.2.category == 2))))) (hok : mm_ok ls i = true) : mm_ls la nL ((ls.set i (some v)).set (i + 1) none) := by
  refine ⟨h.1, h.2.1, fun j x hj => ?_⟩
  by_cases hi1 : j = i + 1
  · subst hi1
    rw [List.getElem?_set_self'] at hj
    cases hl : (ls.set i (some v))[i + 1]? with
    | none => rw [hl] at hj; simp at hj
    | some y => rw [hl] at hj; simp at hj
  rw [List.getElem?_set_ne (fun q => hi1 q.symm)] at hj
  by_cases hij : j = i
  · subst hij
    rw [List.getElem?_set_self' ] at hj
    cases hl : ls[j]? with
    | none => rw [hl] at hj; simp at hj
    | some y =>
      rw [hl] at hj
      simp at hj
      subst hj
      exact h.2.2 (j, v) List.mem_cons_self
  · rw [List.getElem?_set_ne (fun q => hij q.symm)] at hj
    refine h.2.2 (j, x) (List.mem_cons_of_mem _ (List.mem_filter.mpr ⟨(mm_to_mem ls 0 j x).mpr ⟨j, by omega, hj⟩, ?_⟩))
    have h1 : (j == i) = false := by simpa using hij
    have h3 : (j == i + 1) = false := by simpa using hi1
    simp only [h1, h3, Bool.not_false, Bool.true_and, Bool.not_eq_true', Bool.and_eq_false_iff]
    by_cases h2 : j + 1 = i
    · right
      subst h2
      unfold mm_ok at hok
      dsimp only at hok
      rw [hj] at hok
      simpa using hok
    · left
      simpa using h2
/-- fewer known locals -/
def mm_mk : List Bool → List (Option Value) → List (Option Value)
  | _, [] => []
  | [], l => l
  | true :: bs, x :: l => x :: mm_mk bs l
  | false :: bs, _ :: l => none :: mm_mk bs l
theorem mm_mk_at : ∀ (bs : List Bool) (l : List (Option Value)) (i : Nat) (v : Value), (mm_mk bs l)[i]? = some (some v) → l[i]? = some (some v) := by
  intro bs
  induction bs with
  | nil => intro l i v h; cases l <;> exact h
  | cons b bs ih =>
    intro l i v h
    cases l with
    | nil => exact h
    | cons x l =>
      cases b with
      | true =>
        cases i with
        | zero => exact h
        | succ i => exact ih l i v (by simpa [mm_mk] using h)
      | false =>
        cases i with
        | zero => simp [mm_mk] at h
        | succ i => simpa using ih l i v (by simpa [mm_mk] using h)
def mm_nw (w : Cond) : Bool := match w with
  | .fieldLinkNest _ _ _ _ _ _ => true
  | .methodLinkNest _ _ _ _ => true
  | .castable _ _ => true
  | .declares _ => true
  | .privateMethod _ => true
  | _ => false
def nw_all : List Cond := lw_tbl.filter mm_nw
theorem nw_in {w : Cond} (h : w ∈ lw_tbl) (h2 : mm_nw w = true) : w ∈ nw_all := List.mem_filter.mpr ⟨h, h2⟩
theorem nw_ot {w : Cond} (h : mm_nw w = true) : w.onTables = true := by
  unfold mm_nw at h
  split at h <;> first | rfl | cases h
theorem nw_moved {s U : State} (hW : s.WarmedH U.vm) (h : ∀ w ∈ nw_all, va_Nw w s) : ∀ w ∈ nw_all, va_Nw w U := by
  intro w hw
  have h1 := h w hw
  have h2 := (List.mem_filter.mp hw).2
  unfold mm_nw at h2
  split at h2
  · exact va_Nw.warmF hW h1
  · exact va_Nw.warmM hW h1
  · exact va_Nw.warmC hW h1
  · exact va_Nw.warmD hW h1
  · exact Cond.privateMethod_warm (args := #[]) hW h1
  · cases h2
/-- statics that nobody writes -/
def mm_ZS (z : Nat → Option Nat) (A : Nat → Prop) (U : State) : Prop :=
  va_Z "java/util/ArrayList" "EMPTY_ELEMENTDATA" "[Ljava/lang/Object;" (va_rf (z 1)) A U U.heap ∧ va_Z "java/util/ArrayList" "DEFAULTCAPACITY_EMPTY_ELEMENTDATA" "[Ljava/lang/Object;" (va_rf (z 2)) A U U.heap ∧ va_Z "java/lang/Throwable" "UNASSIGNED_STACK" "[Ljava/lang/StackTraceElement;" (va_rf (z 3)) A U U.heap ∧ va_Z "java/lang/Throwable" "SUPPRESSED_SENTINEL" "Ljava/util/List;" (va_rf (z 4)) A U U.heap ∧ va_Z "java/lang/String" "COMPACT_STRINGS" "Z" (.int 1) A U U.heap ∧ va_Z "jdk/internal/util/Preconditions" "SIOOBE_FORMATTER" "Ljava/util/function/BiFunction;" (va_rf (z 6)) A U U.heap ∧ vx_L "java/lang/Throwable" "UNASSIGNED_STACK" "[Ljava/lang/StackTraceElement;" A U U.heap ∧ vx_L "java/lang/Throwable" "SUPPRESSED_SENTINEL" "Ljava/util/List;" A U U.heap
/-- the constant Strings of PegLaws$Reader: number, place in its table, text -/
def mm_strs : List (Nat × Nat × String) := [(0, 48, "()<=+-*;"), (1, 83, "cloth wide weight worth pegs winds yards gusts clash pulls dries hang take wash buy hour plain sheet flag wool not and or "), (2, 141, "cloth pegs winds yards gusts clash pulls dries "), (3, 193, "plain sheet flag wool "), (4, 211, "wide "), (5, 219, "weight "), (6, 224, "worth "), (7, 234, "hang take wash buy hour "), (8, 263, "and or "), (9, 279, "wind mass size "), (10, 281, "not ")]
/-- arrays of references that may be made; the class object of Object[] (place 5); the constant Strings (places 10 and on) -/
def mm_AO (z : Nat → Option Nat) (U : State) : Prop := va_AO "java/lang/Object" U ∧ va_AO "PegLaws$State" U ∧ va_AO "PegLaws$Mark" U ∧ (∃ mi, z 5 = some mi ∧ va_Mi "[Ljava/lang/Object;" mi U) ∧ ∀ q ∈ mm_strs, ∃ a, z (10 + q.1) = some a ∧ vk_R "PegLaws$Reader" q.2.1 q.2.2 a U
/-- what holds of a method's frame throughout -/
def mm_Cx (E : mm_E) (own : String) (cc : ByteArray) (nL : Nat) (ret : Option FieldType) (FR LC : Nat) : Prop :=
  (eP E).tables.exec = Jvm.exec ∧ (eC E).code = cc ∧ (eC E).maxLocals = nL ∧ (eS E).vm.findClass own = some (eM E).cls ∧ (∀ w ∈ lw_all, w.before (eV E) (eS E) = true) ∧ mm_KK (eD E) (eF E) (eS E) ∧ (∀ q : Nat, (eS E).heap.size ≤ q → eA E q) ∧ (eT E).locks = false ∧ (eR E).frames = FR ∧ (eR E).locals = LC ∧ (∀ w ∈ nw_all, va_Nw w (eS E)) ∧ (eT E).sig.returnType = ret ∧ (eS E).heap.size = eN E ∧ mm_ZS (eF E).2.1 (eA E) (eS E) ∧ mm_AO (eF E).2.1 (eS E)
section CX
variable {E : mm_E} {own : String} {cc : ByteArray} {nL : Nat} {ret : Option FieldType} {FR LC : Nat}
theorem mm_Cx.x (C : mm_Cx E own cc nL ret FR LC) : (eP E).tables.exec = Jvm.exec := C.1
theorem mm_Cx.b (C : mm_Cx E own cc nL ret FR LC) : (eC E).code = cc := C.2.1
theorem mm_Cx.ml (C : mm_Cx E own cc nL ret FR LC) : (eC E).maxLocals = nL := C.2.2.1
theorem mm_Cx.ow (C : mm_Cx E own cc nL ret FR LC) : (eS E).vm.findClass own = some (eM E).cls := C.2.2.2.1
theorem mm_Cx.ts (C : mm_Cx E own cc nL ret FR LC) : ∀ w ∈ lw_all, w.before (eV E) (eS E) = true := C.2.2.2.2.1
theorem mm_Cx.kk (C : mm_Cx E own cc nL ret FR LC) : mm_KK (eD E) (eF E) (eS E) := C.2.2.2.2.2.1
theorem mm_Cx.k (C : mm_Cx E own cc nL ret FR LC) : va_K (eD E) mm_cl (mm_tys (eF E).1) (eS E) := C.kk.1
theorem mm_Cx.lo (C : mm_Cx E own cc nL ret FR LC) : ∀ ek c, (eF E).2.2 ek c → (eS E).isArrayOf c (mm_ety ek) := C.kk.2
theorem mm_Cx.a (C : mm_Cx E own cc nL ret FR LC) : ∀ q : Nat, (eS E).heap.size ≤ q → eA E q := C.2.2.2.2.2.2.1
theorem mm_Cx.lk (C : mm_Cx E own cc nL ret FR LC) : (eT E).locks = false := C.2.2.2.2.2.2.2.1
theorem mm_Cx.fr (C : mm_Cx E own cc nL ret FR LC) : (eR E).frames = FR := C.2.2.2.2.2.2.2.2.1
theorem mm_Cx.lc (C : mm_Cx E own cc nL ret FR LC) : (eR E).locals = LC := C.2.2.2.2.2.2.2.2.2.1
theorem mm_Cx.nw (C : mm_Cx E own cc nL ret FR LC) : ∀ w ∈ nw_all, va_Nw w (eS E) := C.2.2.2.2.2.2.2.2.2.2.1
theorem mm_Cx.rt (C : mm_Cx E own cc nL ret FR LC) : (eT E).sig.returnType = ret := C.2.2.2.2.2.2.2.2.2.2.2.1
theorem mm_Cx.sz (C : mm_Cx E own cc nL ret FR LC) : (eS E).heap.size = eN E := C.2.2.2.2.2.2.2.2.2.2.2.2.1
theorem mm_Cx.zs (C : mm_Cx E own cc nL ret FR LC) : mm_ZS (eF E).2.1 (eA E) (eS E) := C.2.2.2.2.2.2.2.2.2.2.2.2.2.1
theorem mm_Cx.ao (C : mm_Cx E own cc nL ret FR LC)   : mm_AO (eF E).2.1 (eS E) := C.2.2.2.2.2.2.2.2.2.2.2.2.2.2
end CX
def mm_I (E : mm_E) (o : mm_O) (ls : List (Option Value)) (K : mm_K) (P : mm_P) (nx sl : Nat) (H : Heap) (locs : List Loc) (la : Array Slot) : Prop :=
  mm_ls la (eC E).maxLocals ls ∧ mm_W (eD E) (eF E) (eA E) K P H ∧ H.size = nx ∧ (eN E ≤ nx ∧ nx ≤ oN o) ∧ (eO E ≤ sl ∧ sl ≤ oS o) ∧ va_S (eA E) (eS E).heap H locs ∧ oN o - eN E ≤ (eR E).cells ∧ oS o - eO E ≤ (eR E).slots
abbrev mm_T (E : mm_E) (o : mm_O) (pc : Nat) (st : List Value) (nx sl : Nat) (H : Heap) (locs : List Loc) (la : Array Slot) : Prop :=
  W (eP E) (eL E) (eE E) (eR E) (eS E) (eM E) (eV E) (eB E) (eT E) (eC E) H locs (nx - eN E) (sl - eO E) (mm_Q E o) (F0 (eM E) pc la st)
def mm_V (E : mm_E) {α : Type} (w : α → mm_O) (pc : Nat) (ls : List (Option Value)) (st : List Value) (K : mm_K) (P : mm_P) (nx sl : Nat) (x : Option α) : Prop :=
  ∀ out, x = some out → ∀ (H : Heap) (locs : List Loc) (la : Array Slot), mm_I E (w out) ls K P nx sl H locs la → mm_T E (w out) pc st nx sl H locs la
/-! the partial steps -/
def mm_gd {α : Type} (c : Prop) [Decidable c] (f : Option α) : Option α := if c then f else none
def mm_bd {α β : Type} (x : Option β) (g : β → Option α) : Option α := match x with
  | none => none
  | some r => g r
def mm_on {α : Type} (x : Option Nat) (f : Option α) (g : Nat → Option α) : Option α := match x with
  | none => f
  | some r => g r
def mm_lt {α β : Type} (x : β) (g : β → α) : α := g x
abbrev mm_in (i : Int32) (n : Nat) : Prop := ¬ (i < 0 ∨ n ≤ i.toNatClampNeg)
def mm_shl (x y : Int32) : Int32 := x <<< (y &&& 31)
def mm_shr (x y : Int32) : Int32 := x >>> (y &&& 31)
def mm_rem (x y : Int32) : Int32 := x - x / y * y
def mm_remL (x y : Int64) : Int64 := x - x / y * y
def mm_shlL (x : Int64) (y : Int32) : Int64 := x <<< (y.toInt64 &&& 63)
def mm_shrL (x : Int64) (y : Int32) : Int64 := x >>> (y.toInt64 &&& 63)
def mm_chr (x : Int32) : Int32 := (x.toUInt32 % 65536).toInt32
/-- the number of loop turns and of calls within calls that no run reaches -/
def mm_NF : Nat := 100000
section ROWS
variable {α : Type} {E : mm_E} {own : String} {cc : ByteArray} {nL : Nat} {ret : Option FieldType} {FR LC : Nat} {w : α → mm_O} {pc : Nat} {ls : List (Option Value)} {st : List Value} {K : mm_K} {P : mm_P} {nx sl : Nat} {f : Option α}
theorem r_gd {c : Prop} [Decidable c] (k : c → mm_V E w pc ls st K P nx sl f) : mm_V E w pc ls st K P nx sl (mm_gd c f) := by
  intro out ho
  unfold mm_gd at ho
  split at ho
  · next hc => exact k hc out ho
  · cases ho
theorem r_bd {β : Type} {x : Option β} {g : β → Option α} (k : ∀ r, x = some r → mm_V E w pc ls st K P nx sl (g r)) : mm_V E w pc ls st K P nx sl (mm_bd x g) := by
  intro out ho
  cases hx : x with
  | none => rw [hx] at ho; cases ho
  | some r => rw [hx] at ho; exact k r hx out ho
theorem r_lt {β : Type} {x : β} {g : β → Option α} (k : ∀ r, r = x → mm_V E w pc ls st K P nx sl (g r)) : mm_V E w pc ls st K P nx sl (mm_lt x g) := k x rfl
theorem r_mask (bs : List Bool) {ls' : List (Option Value)} (h : mm_mk bs ls = ls') (k : mm_V E w pc ls' st K P nx sl f) : mm_V E w pc ls st K P nx sl f := by
  subst h
  intro out ho H locs la hI
  exact k out ho H locs la ⟨⟨hI.1.1, hI.1.2.1, fun i v hv => hI.1.2.2 i v (mm_mk_at bs ls i v hv)⟩, hI.2⟩

theorem r_iconst (C : mm_Cx E own cc nL ret FR LC) {n : Int} {v : Int32} (d : decode cc pc = .ok (.iconst n, 1)) (hv : Int32.ofInt n = v) (k : mm_V E w (pc + 1) ls (.int v :: st) K P nx sl f) : mm_V E w pc ls (st) K P nx sl f := fun out ho H locs la h => lv_iconst C.x C.b d hv (k out ho H locs la h)
theorem r_bipush (C : mm_Cx E own cc nL ret FR LC) {n : Int} {v : Int32} (d : decode cc pc = .ok (.bipush n, 2)) (hv : (Int8.ofInt n).toInt32 = v) (k : mm_V E w (pc + 2) ls (.int v :: st) K P nx sl f) : mm_V E w pc ls (st) K P nx sl f := fun out ho H locs la h => lv_bipush C.x C.b d hv (k out ho H locs la h)
theorem r_sipush (C : mm_Cx E own cc nL ret FR LC) {n : Int} {v : Int32} (d : decode cc pc = .ok (.sipush n, 3)) (hv : (Int16.ofInt n).toInt32 = v) (k : mm_V E w (pc + 3) ls (.int v :: st) K P nx sl f) : mm_V E w pc ls (st) K P nx sl f := fun out ho H locs la h => lv_sipush C.x C.b d hv (k out ho H locs la h)
theorem r_lconst (C : mm_Cx E own cc nL ret FR LC) {n : Fin 2} {v : Int64} (d : decode cc pc = .ok (.lconst n, 1)) (hv : Int64.ofNat (n : Nat) = v) (k : mm_V E w (pc + 1) ls (.long v :: st) K P nx sl f) : mm_V E w pc ls (st) K P nx sl f := fun out ho H locs la h => lv_lconst C.x C.b d hv (k out ho H locs la h)
theorem r_null (C : mm_Cx E own cc nL ret FR LC) (d : decode cc pc = .ok (.aconst_null, 1)) (k : mm_V E w (pc + 1) ls (.null :: st) K P nx sl f) : mm_V E w pc ls (st) K P nx sl f := fun out ho H locs la h => lv_null C.x C.b d (k out ho H locs la h)
theorem r_iadd (C : mm_Cx E own cc nL ret FR LC) {x y : Int32} (d : decode cc pc = .ok (.iadd, 1)) (k : mm_V E w (pc + 1) ls (.int (x + y) :: st) K P nx sl f) : mm_V E w pc ls (.int y :: .int x :: st) K P nx sl f := fun out ho H locs la h => lv_iadd C.x C.b d (k out ho H locs la h)
theorem r_isub (C : mm_Cx E own cc nL ret FR LC) {x y : Int32} (d : decode cc pc = .ok (.isub, 1)) (k : mm_V E w (pc + 1) ls (.int (x - y) :: st) K P nx sl f) : mm_V E w pc ls (.int y :: .int x :: st) K P nx sl f := fun out ho H locs la h => lv_isub C.x C.b d (k out ho H locs la h)
theorem r_imul (C : mm_Cx E own cc nL ret FR LC) {x y : Int32} (d : decode cc pc = .ok (.imul, 1)) (k : mm_V E w (pc + 1) ls (.int (x * y) :: st) K P nx sl f) : mm_V E w pc ls (.int y :: .int x :: st) K P nx sl f := fun out ho H locs la h => lv_imul C.x C.b d (k out ho H locs la h)
theorem r_iand (C : mm_Cx E own cc nL ret FR LC) {x y : Int32} (d : decode cc pc = .ok (.iand, 1)) (k : mm_V E w (pc + 1) ls (.int (x &&& y) :: st) K P nx sl f) : mm_V E w pc ls (.int y :: .int x :: st) K P nx sl f := fun out ho H locs la h => lv_iand C.x C.b d (k out ho H locs la h)
theorem r_ior (C : mm_Cx E own cc nL ret FR LC) {x y : Int32} (d : decode cc pc = .ok (.ior, 1)) (k : mm_V E w (pc + 1) ls (.int (x ||| y) :: st) K P nx sl f) : mm_V E w pc ls (.int y :: .int x :: st) K P nx sl f := fun out ho H locs la h => lv_ior C.x C.b d (k out ho H locs la h)
theorem r_ixor (C : mm_Cx E own cc nL ret FR LC) {x y : Int32} (d : decode cc pc = .ok (.ixor, 1)) (k : mm_V E w (pc + 1) ls (.int (x ^^^ y) :: st) K P nx sl f) : mm_V E w pc ls (.int y :: .int x :: st) K P nx sl f := fun out ho H locs la h => lv_ixor C.x C.b d (k out ho H locs la h)
theorem r_ishl (C : mm_Cx E own cc nL ret FR LC) {x y : Int32} (d : decode cc pc = .ok (.ishl, 1)) (k : mm_V E w (pc + 1) ls (.int (mm_shl x y) :: st) K P nx sl f) : mm_V E w pc ls (.int y :: .int x :: st) K P nx sl f := fun out ho H locs la h => lv_ishl C.x C.b d (k out ho H locs la h)
theorem r_ishr (C : mm_Cx E own cc nL ret FR LC) {x y : Int32} (d : decode cc pc = .ok (.ishr, 1)) (k : mm_V E w (pc + 1) ls (.int (mm_shr x y) :: st) K P nx sl f) : mm_V E w pc ls (.int y :: .int x :: st) K P nx sl f := fun out ho H locs la h => lv_ishr C.x C.b d (k out ho H locs la h)
theorem r_idiv (C : mm_Cx E own cc nL ret FR LC) {x y : Int32} (d : decode cc pc = .ok (.idiv, 1)) (hne : ¬ y = 0) (k : mm_V E w (pc + 1) ls (.int (x / y) :: st) K P nx sl f) : mm_V E w pc ls (.int y :: .int x :: st) K P nx sl f := fun out ho H locs la h => lv_idiv C.x C.b d hne (k out ho H locs la h)
theorem r_irem (C : mm_Cx E own cc nL ret FR LC) {x y : Int32} (d : decode cc pc = .ok (.irem, 1)) (hne : ¬ y = 0) (k : mm_V E w (pc + 1) ls (.int (mm_rem x y) :: st) K P nx sl f) : mm_V E w pc ls (.int y :: .int x :: st) K P nx sl f := fun out ho H locs la h => lv_irem C.x C.b d hne (k out ho H locs la h)
theorem r_ineg (C : mm_Cx E own cc nL ret FR LC) {x : Int32} (d : decode cc pc = .ok (.ineg, 1)) (k : mm_V E w (pc + 1) ls (.int (-x) :: st) K P nx sl f) : mm_V E w pc ls (.int x :: st) K P nx sl f := fun out ho H locs la h => lv_ineg C.x C.b d (k out ho H locs la h)
theorem r_ladd (C : mm_Cx E own cc nL ret FR LC) {x y : Int64} (d : decode cc pc = .ok (.ladd, 1)) (k : mm_V E w (pc + 1) ls (.long (x + y) :: st) K P nx sl f) : mm_V E w pc ls (.long y :: .long x :: st) K P nx sl f := fun out ho H locs la h => lv_ladd C.x C.b d (k out ho H locs la h)
theorem r_lsub (C : mm_Cx E own cc nL ret FR LC) {x y : Int64} (d : decode cc pc = .ok (.lsub, 1)) (k : mm_V E w (pc + 1) ls (.long (x - y) :: st) K P nx sl f) : mm_V E w pc ls (.long y :: .long x :: st) K P nx sl f := fun out ho H locs la h => lv_lsub C.x C.b d (k out ho H locs la h)
theorem r_lmul (C : mm_Cx E own cc nL ret FR LC) {x y : Int64} (d : decode cc pc = .ok (.lmul, 1)) (k : mm_V E w (pc + 1) ls (.long (x * y) :: st) K P nx sl f) : mm_V E w pc ls (.long y :: .long x :: st) K P nx sl f := fun out ho H locs la h => lv_lmul C.x C.b d (k out ho H locs la h)
theorem r_land (C : mm_Cx E own cc nL ret FR LC) {x y : Int64} (d : decode cc pc = .ok (.land, 1)) (k : mm_V E w (pc + 1) ls (.long (x &&& y) :: st) K P nx sl f) : mm_V E w pc ls (.long y :: .long x :: st) K P nx sl f := fun out ho H locs la h => lv_land C.x C.b d (k out ho H locs la h)
theorem r_lor (C : mm_Cx E own cc nL ret FR LC) {x y : Int64} (d : decode cc pc = .ok (.lor, 1)) (k : mm_V E w (pc + 1) ls (.long (x ||| y) :: st) K P nx sl f) : mm_V E w pc ls (.long y :: .long x :: st) K P nx sl f := fun out ho H locs la h => lv_lor C.x C.b d (k out ho H locs la h)
theorem r_ldiv (C : mm_Cx E own cc nL ret FR LC) {x y : Int64} (d : decode cc pc = .ok (.ldiv, 1)) (hne : ¬ y = 0) (k : mm_V E w (pc + 1) ls (.long (x / y) :: st) K P nx sl f) : mm_V E w pc ls (.long y :: .long x :: st) K P nx sl f := fun out ho H locs la h => lv_ldiv C.x C.b d hne (k out ho H locs la h)
theorem r_lrem (C : mm_Cx E own cc nL ret FR LC) {x y : Int64} (d : decode cc pc = .ok (.lrem, 1)) (hne : ¬ y = 0) (k : mm_V E w (pc + 1) ls (.long (mm_remL x y) :: st) K P nx sl f) : mm_V E w pc ls (.long y :: .long x :: st) K P nx sl f := fun out ho H locs la h => lv_lrem C.x C.b d hne (k out ho H locs la h)
theorem r_lshl (C : mm_Cx E own cc nL ret FR LC) {x : Int64} {y : Int32} (d : decode cc pc = .ok (.lshl, 1)) (k : mm_V E w (pc + 1) ls (.long (mm_shlL x y) :: st) K P nx sl f) : mm_V E w pc ls (.int y :: .long x :: st) K P nx sl f := fun out ho H locs la h => lv_lshl C.x C.b d rfl (k out ho H locs la h)
theorem r_lshr (C : mm_Cx E own cc nL ret FR LC) {x : Int64} {y : Int32} (d : decode cc pc = .ok (.lshr, 1)) (k : mm_V E w (pc + 1) ls (.long (mm_shrL x y) :: st) K P nx sl f) : mm_V E w pc ls (.int y :: .long x :: st) K P nx sl f := fun out ho H locs la h => lv_lshr C.x C.b d rfl (k out ho H locs la h)
theorem r_lcmp (C : mm_Cx E own cc nL ret FR LC) {x y : Int64} (d : decode cc pc = .ok (.lcmp, 1)) (k : mm_V E w (pc + 1) ls (.int (lg_cmp x y) :: st) K P nx sl f) : mm_V E w pc ls (.long y :: .long x :: st) K P nx sl f := fun out ho H locs la h => W.lcmp C.x C.b d (k out ho H locs la h)
theorem r_i2l (C : mm_Cx E own cc nL ret FR LC) {x : Int32} (d : decode cc pc = .ok (.i2l, 1)) (k : mm_V E w (pc + 1) ls (.long x.toInt64 :: st) K P nx sl f) : mm_V E w pc ls (.int x :: st) K P nx sl f := fun out ho H locs la h => lv_i2l C.x C.b d rfl (k out ho H locs la h)
theorem r_l2i (C : mm_Cx E own cc nL ret FR LC) {x : Int64} (d : decode cc pc = .ok (.l2i, 1)) (k : mm_V E w (pc + 1) ls (.int x.toInt32 :: st) K P nx sl f) : mm_V E w pc ls (.long x :: st) K P nx sl f := fun out ho H locs la h => lv_l2i C.x C.b d rfl (k out ho H locs la h)
theorem r_i2b (C : mm_Cx E own cc nL ret FR LC) {x : Int32} (d : decode cc pc = .ok (.i2b, 1)) (k : mm_V E w (pc + 1) ls (.int x.toInt8.toInt32 :: st) K P nx sl f) : mm_V E w pc ls (.int x :: st) K P nx sl f := fun out ho H locs la h => lv_i2b C.x C.b d rfl (k out ho H locs la h)
theorem r_i2c (C : mm_Cx E own cc nL ret FR LC) {x : Int32} (d : decode cc pc = .ok (.i2c, 1)) (k : mm_V E w (pc + 1) ls (.int (mm_chr x) :: st) K P nx sl f) : mm_V E w pc ls (.int x :: st) K P nx sl f := fun out ho H locs la h => lv_i2c C.x C.b d rfl (k out ho H locs la h)
theorem r_dup (C : mm_Cx E own cc nL ret FR LC) {a : Value} (d : decode cc pc = .ok (.dup, 1)) (h1 : a.category = 1) (k : mm_V E w (pc + 1) ls (a :: a :: st) K P nx sl f) : mm_V E w pc ls (a :: st) K P nx sl f := fun out ho H locs la h => lv_dup C.x C.b d h1 (k out ho H locs la h)
theorem r_pop (C : mm_Cx E own cc nL ret FR LC) {a : Value} (d : decode cc pc = .ok (.pop, 1)) (h1 : a.category = 1) (k : mm_V E w (pc + 1) ls (st) K P nx sl f) : mm_V E w pc ls (a :: st) K P nx sl f := fun out ho H locs la h => lv_pop C.x C.b d h1 (k out ho H locs la h)
theorem r_dup_x1 (C : mm_Cx E own cc nL ret FR LC) {a b : Value} (d : decode cc pc = .ok (.dup_x1, 1)) (h1 : a.category = 1) (h2 : b.category = 1) (k : mm_V E w (pc + 1) ls (a :: b :: a :: st) K P nx sl f) : mm_V E w pc ls (a :: b :: st) K P nx sl f := fun out ho H locs la h => lv_dup_x1 C.x C.b d h1 h2 (k out ho H locs la h)
theorem r_dup_x2 (C : mm_Cx E own cc nL ret FR LC) {a b c : Value} (d : decode cc pc = .ok (.dup_x2, 1)) (h1 : a.category = 1) (h2 : b.category = 1) (h3 : c.category = 1) (k : mm_V E w (pc + 1) ls (a :: b :: c :: a :: st) K P nx sl f) : mm_V E w pc ls (a :: b :: c :: st) K P nx sl f := fun out ho H locs la h => lv_dup_x2 C.x C.b d h1 h2 h3 (k out ho H locs la h)
theorem r_dup2_11 (C : mm_Cx E own cc nL ret FR LC) {a b : Value} (d : decode cc pc = .ok (.dup2, 1)) (h1 : a.category = 1) (h2 : b.category = 1) (k : mm_V E w (pc + 1) ls (a :: b :: a :: b :: st) K P nx sl f) : mm_V E w pc ls (a :: b :: st) K P nx sl f := fun out ho H locs la h => lv_dup2_11 C.x C.b d h1 h2 (k out ho H locs la h)
theorem r_ldc (C : mm_Cx E own cc nL ret FR LC) {index : Nat} {v : Int32} (d : decode cc pc = .ok (.ldc index, 2)) (hc : Cond.constant own index v ∈ lw_all) (k : mm_V E w (pc + 2) ls (.int v :: st) K P nx sl f) : mm_V E w pc ls (st) K P nx sl f := fun out ho H locs la h => lv_ldc C.x C.b C.ow (C.ts _ hc) d (k out ho H locs la h)
theorem r_ldcw (C : mm_Cx E own cc nL ret FR LC) {index : Nat} {v : Int32} (d : decode cc pc = .ok (.ldc_w index, 3)) (hc : Cond.constant own index v ∈ lw_all) (k : mm_V E w (pc + 3) ls (.int v :: st) K P nx sl f) : mm_V E w pc ls (st) K P nx sl f := fun out ho H locs la h => lv_ldcw C.x C.b C.ow (C.ts _ hc) d (k out ho H locs la h)
theorem r_ldc2 (C : mm_Cx E own cc nL ret FR LC) {index : Nat} {v : Int64} (d : decode cc pc = .ok (.ldc2_w index, 3)) (hc : Cond.constantLong own index v ∈ lw_all) (k : mm_V E w (pc + 3) ls (.long v :: st) K P nx sl f) : mm_V E w pc ls (st) K P nx sl f := fun out ho H locs la h => lv_ldc2 C.x C.b C.ow (C.ts _ hc) d (k out ho H locs la h)
theorem r_iload_n (C : mm_Cx E own cc nL ret FR LC) {kk : Fin 4} {i : Nat} {x : Int32} (d : decode cc pc = .ok (.iload_n kk, 1)) (hi : (kk : Nat) = i) (hl : ls[i]? = some (some (.int x))) (k : mm_V E w (pc + 1) ls (.int x :: st) K P nx sl f) : mm_V E w pc ls (st) K P nx sl f := fun out ho H locs la h => lv_iload_n C.x C.b d hi (h.1.2.2 _ _ hl) (k out ho H locs la h)
theorem r_iload (C : mm_Cx E own cc nL ret FR LC) {i : Nat} {x : Int32} (d : decode cc pc = .ok (.iload i, 2)) (hl : ls[i]? = some (some (.int x))) (k : mm_V E w (pc + 2) ls (.int x :: st) K P nx sl f) : mm_V E w pc ls (st) K P nx sl f := fun out ho H locs la h => lv_iload C.x C.b d (h.1.2.2 _ _ hl) (k out ho H locs la h)
theorem r_lload_n (C : mm_Cx E own cc nL ret FR LC) {kk : Fin 4} {i : Nat} {x : Int64} (d : decode cc pc = .ok (.lload_n kk, 1)) (hi : (kk : Nat) = i) (hl : ls[i]? = some (some (.long x))) (k : mm_V E w (pc + 1) ls (.long x :: st) K P nx sl f) : mm_V E w pc ls (st) K P nx sl f := fun out ho H locs la h => lv_lload_n C.x C.b d hi (h.1.2.2 _ _ hl) (k out ho H locs la h)
theorem r_lload (C : mm_Cx E own cc nL ret FR LC) {i : Nat} {x : Int64} (d : decode cc pc = .ok (.lload i, 2)) (hl : ls[i]? = some (some (.long x))) (k : mm_V E w (pc + 2) ls (.long x :: st) K P nx sl f) : mm_V E w pc ls (st) K P nx sl f := fun out ho H locs la h => lv_lload C.x C.b d (h.1.2.2 _ _ hl) (k out ho H locs la h)
theorem r_aload_n (C : mm_Cx E own cc nL ret FR LC) {kk : Fin 4} {i : Nat} {x : Nat} (d : decode cc pc = .ok (.aload_n kk, 1)) (hi : (kk : Nat) = i) (hl : ls[i]? = some (some (.ref x))) (k : mm_V E w (pc + 1) ls (.ref x :: st) K P nx sl f) : mm_V E w pc ls (st) K P nx sl f := fun out ho H locs la h => lv_aload_n C.x C.b d hi (h.1.2.2 _ _ hl) (k out ho H locs la h)
theorem r_aload (C : mm_Cx E own cc nL ret FR LC) {i : Nat} {x : Nat} (d : decode cc pc = .ok (.aload i, 2)) (hl : ls[i]? = some (some (.ref x))) (k : mm_V E w (pc + 2) ls (.ref x :: st) K P nx sl f) : mm_V E w pc ls (st) K P nx sl f := fun out ho H locs la h => lv_aload C.x C.b d (h.1.2.2 _ _ hl) (k out ho H locs la h)
theorem r_aload_nO (C : mm_Cx E own cc nL ret FR LC) {kk : Fin 4} {i : Nat} {x : Option Nat} (d : decode cc pc = .ok (.aload_n kk, 1)) (hi : (kk : Nat) = i) (hl : ls[i]? = some (some (va_rf x))) (k : mm_V E w (pc + 1) ls (va_rf x :: st) K P nx sl f) : mm_V E w pc ls st K P nx sl f := by
  intro out ho H locs la h
  cases x with
  | none => exact lv_aload_nN C.x C.b d hi (h.1.2.2 _ _ hl) (k out ho H locs la h)
  | some a => exact lv_aload_n C.x C.b d hi (h.1.2.2 _ _ hl) (k out ho H locs la h)
theorem r_aloadO (C : mm_Cx E own cc nL ret FR LC) {i : Nat} {x : Option Nat} (d : decode cc pc = .ok (.aload i, 2)) (hl : ls[i]? = some (some (va_rf x))) (k : mm_V E w (pc + 2) ls (va_rf x :: st) K P nx sl f) : mm_V E w pc ls st K P nx sl f := by
  intro out ho H locs la h
  cases x with
  | none => exact lv_aloadN C.x C.b d (h.1.2.2 _ _ hl) (k out ho H locs la h)
  | some a => exact lv_aload C.x C.b d (h.1.2.2 _ _ hl) (k out ho H locs la h)
theorem r_istore_n (C : mm_Cx E own cc nL ret FR LC) {kk : Fin 4} {i : Nat} {x : Int32} {ls' : List (Option Value)} (d : decode cc pc = .ok (.istore_n kk, 1)) (hi : (kk : Nat) = i) (hn : i < nL) (hok : mm_ok ls i = true) (hs : ls.set i (some (.int x)) = ls') (k : mm_V E w (pc + 1) ls' st K P nx sl f) : mm_V E w pc ls (.int x :: st) K P nx sl f := by
  subst hs
  intro out ho H locs la h
  exact lv_istore_n C.x C.b d hi h.1.has (by rw [C.ml]; exact hn) rfl (fun la' hl' => k out ho H locs la' ⟨mm_ls.st1 hl' hok, h.2⟩)
theorem r_istore (C : mm_Cx E own cc nL ret FR LC) {i : Nat} {x : Int32} {ls' : List (Option Value)} (d : decode cc pc = .ok (.istore i, 2)) (hn : i < nL) (hok : mm_ok ls i = true) (hs : ls.set i (some (.int x)) = ls') (k : mm_V E w (pc + 2) ls' st K P nx sl f) : mm_V E w pc ls (.int x :: st) K P nx sl f := by
  subst hs
  intro out ho H locs la h
  exact lv_istore C.x C.b d h.1.has (by rw [C.ml]; exact hn) rfl (fun la' hl' => k out ho H locs la' ⟨mm_ls.st1 hl' hok, h.2⟩)
theorem r_lstore_n (C : mm_Cx E own cc nL ret FR LC) {kk : Fin 4} {i : Nat} {x : Int64} {ls' : List (Option Value)} (d : decode cc pc = .ok (.lstore_n kk, 1)) (hi : (kk : Nat) = i) (hn : i + 1 < nL) (hok : mm_ok ls i = true) (hs : (ls.set i (some (.long x))).set (i + 1) none = ls') (k : mm_V E w (pc + 1) ls' st K P nx sl f) : mm_V E w pc ls (.long x :: st) K P nx sl f := by
  subst hs
  intro out ho H locs la h
  exact lv_lstore_n C.x C.b d hi h.1.has (by rw [C.ml]; exact hn) rfl (fun la' hl' => k out ho H locs la' ⟨mm_ls.st2 hl' hok, h.2⟩)
theorem r_lstore (C : mm_Cx E own cc nL ret FR LC) {i : Nat} {x : Int64} {ls' : List (Option Value)} (d : decode cc pc = .ok (.lstore i, 2)) (hn : i + 1 < nL) (hok : mm_ok ls i = true) (hs : (ls.set i (some (.long x))).set (i + 1) none = ls') (k : mm_V E w (pc + 2) ls' st K P nx sl f) : mm_V E w pc ls (.long x :: st) K P nx sl f := by
  subst hs
  intro out ho H locs la h
  exact lv_lstore C.x C.b d h.1.has (by rw [C.ml]; exact hn) rfl (fun la' hl' => k out ho H locs la' ⟨mm_ls.st2 hl' hok, h.2⟩)
theorem r_astore_n (C : mm_Cx E own cc nL ret FR LC) {kk : Fin 4} {i : Nat} {x : Nat} {ls' : List (Option Value)} (d : decode cc pc = .ok (.astore_n kk, 1)) (hi : (kk : Nat) = i) (hn : i < nL) (hok : mm_ok ls i = true) (hs : ls.set i (some (.ref x)) = ls') (k : mm_V E w (pc + 1) ls' st K P nx sl f) : mm_V E w pc ls (.ref x :: st) K P nx sl f := by
  subst hs
  intro out ho H locs la h
  exact lv_astore_n C.x C.b d hi h.1.has (by rw [C.ml]; exact hn) rfl (fun la' hl' => k out ho H locs la' ⟨mm_ls.st1 hl' hok, h.2⟩)
theorem r_astore (C : mm_Cx E own cc nL ret FR LC) {i : Nat} {x : Nat} {ls' : List (Option Value)} (d : decode cc pc = .ok (.astore i, 2)) (hn : i < nL) (hok : mm_ok ls i = true) (hs : ls.set i (some (.ref x)) = ls') (k : mm_V E w (pc + 2) ls' st K P nx sl f) : mm_V E w pc ls (.ref x :: st) K P nx sl f := by
  subst hs
  intro out ho H locs la h
  exact lv_astore C.x C.b d h.1.has (by rw [C.ml]; exact hn) rfl (fun la' hl' => k out ho H locs la' ⟨mm_ls.st1 hl' hok, h.2⟩)
theorem r_astore_nO (C : mm_Cx E own cc nL ret FR LC) {kk : Fin 4} {i : Nat} {x : Option Nat} {ls' : List (Option Value)} (d : decode cc pc = .ok (.astore_n kk, 1)) (hi : (kk : Nat) = i) (hn : i < nL) (hok : mm_ok ls i = true) (hs : ls.set i (some (va_rf x)) = ls') (k : mm_V E w (pc + 1) ls' st K P nx sl f) : mm_V E w pc ls (va_rf x :: st) K P nx sl f := by
  subst hs
  intro out ho H locs la h
  cases x with
  | none => exact lv_astore_nN C.x C.b d hi h.1.has (by rw [C.ml]; exact hn) rfl (fun la' hl' => k out ho H locs la' ⟨mm_ls.st1 hl' hok, h.2⟩)
  | some a => exact lv_astore_n C.x C.b d hi h.1.has (by rw [C.ml]; exact hn) rfl (fun la' hl' => k out ho H locs la' ⟨mm_ls.st1 hl' hok, h.2⟩)
theorem r_astoreO (C : mm_Cx E own cc nL ret FR LC) {i : Nat} {x : Option Nat} {ls' : List (Option Value)} (d : decode cc pc = .ok (.astore i, 2)) (hn : i < nL) (hok : mm_ok ls i = true) (hs : ls.set i (some (va_rf x)) = ls') (k : mm_V E w (pc + 2) ls' st K P nx sl f) : mm_V E w pc ls (va_rf x :: st) K P nx sl f := by
  subst hs
  intro out ho H locs la h
  cases x with
  | none => exact lv_astoreN C.x C.b d h.1.has (by rw [C.ml]; exact hn) rfl (fun la' hl' => k out ho H locs la' ⟨mm_ls.st1 hl' hok, h.2⟩)
  | some a => exact lv_astore C.x C.b d h.1.has (by rw [C.ml]; exact hn) rfl (fun la' hl' => k out ho H locs la' ⟨mm_ls.st1 hl' hok, h.2⟩)
theorem mm_to_get {ls : List (Option Value)} {i : Nat} {v : Value} (h : ls[i]? = some (some v)) : ∃ k : Nat, (mm_to 0 ls)[k]? = some (i, v) := List.getElem?_of_mem ((mm_to_mem ls 0 i v).mpr ⟨i, by omega, h⟩)
theorem r_iinc (C : mm_Cx E own cc nL ret FR LC) {i : Nat} {n : Int} {x v : Int32} {ls' : List (Option Value)} (d : decode cc pc = .ok (.iinc i n, 3)) (hl : ls[i]? = some (some (.int x))) (hv : Int32.ofInt n = v) (hn : i < nL) (hok : mm_ok ls i = true) (hs : ls.set i (some (.int (x + v))) = ls') (k : mm_V E w (pc + 3) ls' st K P nx sl f) : mm_V E w pc ls st K P nx sl f := by
  subst hs
  subst hv
  intro out ho H locs la h
  obtain ⟨k0, hk0⟩ := mm_to_get hl
  exact lv_iinc C.x C.b d h.1.has hk0 rfl (by rw [C.ml]; exact hn) rfl (fun la' hl' => k out ho H locs la' ⟨mm_ls.st1 hl' hok, h.2⟩)
/-- .. and the new value gets a name -/
theorem r_iincL (C : mm_Cx E own cc nL ret FR LC) {i : Nat} {n : Int} {x v : Int32} {g : Int32 → Option α} (d : decode cc pc = .ok (.iinc i n, 3)) (hl : ls[i]? = some (some (.int x))) (hv : Int32.ofInt n = v) (hn : i < nL) (hok : mm_ok ls i = true) (k : ∀ z : Int32, mm_V E w (pc + 3) (ls.set i (some (.int z))) st K P nx sl (g z)) : mm_V E w pc ls st K P nx sl (mm_lt (x + v) g) :=
  r_iinc C d hl hv hn hok rfl (k (x + v))
theorem mm_br {α : Type} {E : mm_E} {w : α → mm_O} {c : Prop} [Decidable c] {o : α} {f g : Option α} (h : (if c then f else g) = some o) : (c → f = some o) ∧ (¬ c → g = some o) := ⟨fun hc => by rw [if_pos hc] at h; exact h, fun hc => by rw [if_neg hc] at h; exact h⟩
theorem r_ifeq (C : mm_Cx E own cc nL ret FR LC) {x : Int32} {off : Int} {tgt : Nat} {f g : Option α} (d : decode cc pc = .ok (.ifCond .eq off, 3)) (ht : (pc : Int) + off = (tgt : Int)) (kt : x = 0 → mm_V E w tgt ls st K P nx sl f) (kf : ¬ (x = 0) → mm_V E w (pc + 3) ls st K P nx sl g) : mm_V E w pc ls (.int x :: st) K P nx sl (if x = 0 then f else g) := by
  intro out ho H locs la h
  by_cases hc : x = 0
  · rw [if_pos hc] at ho
    exact lv_if_eq C.x C.b d ht (fun _ => kt hc out ho H locs la h) (fun q => absurd hc (by first | exact q | exact fun z => z q | exact fun z => q z))
  · rw [if_neg hc] at ho
    exact lv_if_eq C.x C.b d ht (fun q => absurd q (by first | exact hc | exact fun z => hc z)) (fun _ => kf hc out ho H locs la h)
theorem r_ifne (C : mm_Cx E own cc nL ret FR LC) {x : Int32} {off : Int} {tgt : Nat} {f g : Option α} (d : decode cc pc = .ok (.ifCond .ne off, 3)) (ht : (pc : Int) + off = (tgt : Int)) (kt : x ≠ 0 → mm_V E w tgt ls st K P nx sl f) (kf : ¬ (x ≠ 0) → mm_V E w (pc + 3) ls st K P nx sl g) : mm_V E w pc ls (.int x :: st) K P nx sl (if x ≠ 0 then f else g) := by
  intro out ho H locs la h
  by_cases hc : x ≠ 0
  · rw [if_pos hc] at ho
    exact lv_if_ne C.x C.b d ht (fun _ => kt hc out ho H locs la h) (fun q => absurd hc (by first | exact q | exact fun z => z q | exact fun z => q z))
  · rw [if_neg hc] at ho
    exact lv_if_ne C.x C.b d ht (fun q => absurd q (by first | exact hc | exact fun z => hc z)) (fun _ => kf hc out ho H locs la h)
theorem r_iflt (C : mm_Cx E own cc nL ret FR LC) {x : Int32} {off : Int} {tgt : Nat} {f g : Option α} (d : decode cc pc = .ok (.ifCond .lt off, 3)) (ht : (pc : Int) + off = (tgt : Int)) (kt : x < 0 → mm_V E w tgt ls st K P nx sl f) (kf : ¬ (x < 0) → mm_V E w (pc + 3) ls st K P nx sl g) : mm_V E w pc ls (.int x :: st) K P nx sl (if x < 0 then f else g) := by
  intro out ho H locs la h
  by_cases hc : x < 0
  · rw [if_pos hc] at ho
    exact lv_if_lt C.x C.b d ht (fun _ => kt hc out ho H locs la h) (fun q => absurd hc (by first | exact q | exact fun z => z q | exact fun z => q z))
  · rw [if_neg hc] at ho
    exact lv_if_lt C.x C.b d ht (fun q => absurd q (by first | exact hc | exact fun z => hc z)) (fun _ => kf hc out ho H locs la h)
theorem r_ifge (C : mm_Cx E own cc nL ret FR LC) {x : Int32} {off : Int} {tgt : Nat} {f g : Option α} (d : decode cc pc = .ok (.ifCond .ge off, 3)) (ht : (pc : Int) + off = (tgt : Int)) (kt : 0 ≤ x → mm_V E w tgt ls st K P nx sl f) (kf : ¬ (0 ≤ x) → mm_V E w (pc + 3) ls st K P nx sl g) : mm_V E w pc ls (.int x :: st) K P nx sl (if 0 ≤ x then f else g) := by
  intro out ho H locs la h
  by_cases hc : 0 ≤ x
  · rw [if_pos hc] at ho
    exact lv_if_ge C.x C.b d ht (fun _ => kt hc out ho H locs la h) (fun q => absurd hc (by first | exact q | exact fun z => z q | exact fun z => q z))
  · rw [if_neg hc] at ho
    exact lv_if_ge C.x C.b d ht (fun q => absurd q (by first | exact hc | exact fun z => hc z)) (fun _ => kf hc out ho H locs la h)
theorem r_ifgt (C : mm_Cx E own cc nL ret FR LC) {x : Int32} {off : Int} {tgt : Nat} {f g : Option α} (d : decode cc pc = .ok (.ifCond .gt off, 3)) (ht : (pc : Int) + off = (tgt : Int)) (kt : 0 < x → mm_V E w tgt ls st K P nx sl f) (kf : ¬ (0 < x) → mm_V E w (pc + 3) ls st K P nx sl g) : mm_V E w pc ls (.int x :: st) K P nx sl (if 0 < x then f else g) := by
  intro out ho H locs la h
  by_cases hc : 0 < x
  · rw [if_pos hc] at ho
    exact lv_if_gt C.x C.b d ht (fun _ => kt hc out ho H locs la h) (fun q => absurd hc (by first | exact q | exact fun z => z q | exact fun z => q z))
  · rw [if_neg hc] at ho
    exact lv_if_gt C.x C.b d ht (fun q => absurd q (by first | exact hc | exact fun z => hc z)) (fun _ => kf hc out ho H locs la h)
theorem r_ifle (C : mm_Cx E own cc nL ret FR LC) {x : Int32} {off : Int} {tgt : Nat} {f g : Option α} (d : decode cc pc = .ok (.ifCond .le off, 3)) (ht : (pc : Int) + off = (tgt : Int)) (kt : x ≤ 0 → mm_V E w tgt ls st K P nx sl f) (kf : ¬ (x ≤ 0) → mm_V E w (pc + 3) ls st K P nx sl g) : mm_V E w pc ls (.int x :: st) K P nx sl (if x ≤ 0 then f else g) := by
  intro out ho H locs la h
  by_cases hc : x ≤ 0
  · rw [if_pos hc] at ho
    exact lv_if_le C.x C.b d ht (fun _ => kt hc out ho H locs la h) (fun q => absurd hc (by first | exact q | exact fun z => z q | exact fun z => q z))
  · rw [if_neg hc] at ho
    exact lv_if_le C.x C.b d ht (fun q => absurd q (by first | exact hc | exact fun z => hc z)) (fun _ => kf hc out ho H locs la h)
theorem r_icmpeq (C : mm_Cx E own cc nL ret FR LC) {x y : Int32} {off : Int} {tgt : Nat} {f g : Option α} (d : decode cc pc = .ok (.if_icmp .eq off, 3)) (ht : (pc : Int) + off = (tgt : Int)) (kt : x = y → mm_V E w tgt ls st K P nx sl f) (kf : ¬ (x = y) → mm_V E w (pc + 3) ls st K P nx sl g) : mm_V E w pc ls (.int y :: .int x :: st) K P nx sl (if x = y then f else g) := by
  intro out ho H locs la h
  by_cases hc : x = y
  · rw [if_pos hc] at ho
    exact lv_icmp_eq C.x C.b d ht (fun _ => kt hc out ho H locs la h) (fun q => absurd hc (by first | exact q | exact fun z => z q | exact fun z => q z))
  · rw [if_neg hc] at ho
    exact lv_icmp_eq C.x C.b d ht (fun q => absurd q (by first | exact hc | exact fun z => hc z)) (fun _ => kf hc out ho H locs la h)
theorem r_icmpne (C : mm_Cx E own cc nL ret FR LC) {x y : Int32} {off : Int} {tgt : Nat} {f g : Option α} (d : decode cc pc = .ok (.if_icmp .ne off, 3)) (ht : (pc : Int) + off = (tgt : Int)) (kt : x ≠ y → mm_V E w tgt ls st K P nx sl f) (kf : ¬ (x ≠ y) → mm_V E w (pc + 3) ls st K P nx sl g) : mm_V E w pc ls (.int y :: .int x :: st) K P nx sl (if x ≠ y then f else g) := by
  intro out ho H locs la h
  by_cases hc : x ≠ y
  · rw [if_pos hc] at ho
    exact lv_icmp_ne C.x C.b d ht (fun _ => kt hc out ho H locs la h) (fun q => absurd hc (by first | exact q | exact fun z => z q | exact fun z => q z))
  · rw [if_neg hc] at ho
    exact lv_icmp_ne C.x C.b d ht (fun q => absurd q (by first | exact hc | exact fun z => hc z)) (fun _ => kf hc out ho H locs la h)
theorem r_icmplt (C : mm_Cx E own cc nL ret FR LC) {x y : Int32} {off : Int} {tgt : Nat} {f g : Option α} (d : decode cc pc = .ok (.if_icmp .lt off, 3)) (ht : (pc : Int) + off = (tgt : Int)) (kt : x < y → mm_V E w tgt ls st K P nx sl f) (kf : ¬ (x < y) → mm_V E w (pc + 3) ls st K P nx sl g) : mm_V E w pc ls (.int y :: .int x :: st) K P nx sl (if x < y then f else g) := by
  intro out ho H locs la h
  by_cases hc : x < y
  · rw [if_pos hc] at ho
    exact lv_icmp_lt C.x C.b d ht (fun _ => kt hc out ho H locs la h) (fun q => absurd hc (by first | exact q | exact fun z => z q | exact fun z => q z))
  · rw [if_neg hc] at ho
    exact lv_icmp_lt C.x C.b d ht (fun q => absurd q (by first | exact hc | exact fun z => hc z)) (fun _ => kf hc out ho H locs la h)
theorem r_icmpge (C : mm_Cx E own cc nL ret FR LC) {x y : Int32} {off : Int} {tgt : Nat} {f g : Option α} (d : decode cc pc = .ok (.if_icmp .ge off, 3)) (ht : (pc : Int) + off = (tgt : Int)) (kt : y ≤ x → mm_V E w tgt ls st K P nx sl f) (kf : ¬ (y ≤ x) → mm_V E w (pc + 3) ls st K P nx sl g) : mm_V E w pc ls (.int y :: .int x :: st) K P nx sl (if y ≤ x then f else g) := by
  intro out ho H locs la h
  by_cases hc : y ≤ x
  · rw [if_pos hc] at ho
    exact lv_icmp_ge C.x C.b d ht (fun _ => kt hc out ho H locs la h) (fun q => absurd hc (by first | exact q | exact fun z => z q | exact fun z => q z))
  · rw [if_neg hc] at ho
    exact lv_icmp_ge C.x C.b d ht (fun q => absurd q (by first | exact hc | exact fun z => hc z)) (fun _ => kf hc out ho H locs la h)
theorem r_icmpgt (C : mm_Cx E own cc nL ret FR LC) {x y : Int32} {off : Int} {tgt : Nat} {f g : Option α} (d : decode cc pc = .ok (.if_icmp .gt off, 3)) (ht : (pc : Int) + off = (tgt : Int)) (kt : y < x → mm_V E w tgt ls st K P nx sl f) (kf : ¬ (y < x) → mm_V E w (pc + 3) ls st K P nx sl g) : mm_V E w pc ls (.int y :: .int x :: st) K P nx sl (if y < x then f else g) := by
  intro out ho H locs la h
  by_cases hc : y < x
  · rw [if_pos hc] at ho
    exact lv_icmp_gt C.x C.b d ht (fun _ => kt hc out ho H locs la h) (fun q => absurd hc (by first | exact q | exact fun z => z q | exact fun z => q z))
  · rw [if_neg hc] at ho
    exact lv_icmp_gt C.x C.b d ht (fun q => absurd q (by first | exact hc | exact fun z => hc z)) (fun _ => kf hc out ho H locs la h)
theorem r_icmple (C : mm_Cx E own cc nL ret FR LC) {x y : Int32} {off : Int} {tgt : Nat} {f g : Option α} (d : decode cc pc = .ok (.if_icmp .le off, 3)) (ht : (pc : Int) + off = (tgt : Int)) (kt : x ≤ y → mm_V E w tgt ls st K P nx sl f) (kf : ¬ (x ≤ y) → mm_V E w (pc + 3) ls st K P nx sl g) : mm_V E w pc ls (.int y :: .int x :: st) K P nx sl (if x ≤ y then f else g) := by
  intro out ho H locs la h
  by_cases hc : x ≤ y
  · rw [if_pos hc] at ho
    exact lv_icmp_le C.x C.b d ht (fun _ => kt hc out ho H locs la h) (fun q => absurd hc (by first | exact q | exact fun z => z q | exact fun z => q z))
  · rw [if_neg hc] at ho
    exact lv_icmp_le C.x C.b d ht (fun q => absurd q (by first | exact hc | exact fun z => hc z)) (fun _ => kf hc out ho H locs la h)
theorem r_goto (C : mm_Cx E own cc nL ret FR LC) {off : Int} {tgt : Nat} (d : decode cc pc = .ok (.goto off, 3)) (ht : (pc : Int) + off = (tgt : Int)) (k : mm_V E w tgt ls st K P nx sl f) : mm_V E w pc ls st K P nx sl f := fun out ho H locs la h => lv_goto C.x C.b d ht (k out ho H locs la h)
/-- a reference that may be null -/
theorem r_ifnull (C : mm_Cx E own cc nL ret FR LC) {x : Option Nat} {off : Int} {tgt : Nat} {f : Option α} {g : Nat → Option α} (d : decode cc pc = .ok (.ifnull off, 3)) (ht : (pc : Int) + off = (tgt : Int)) (kt : x = none → mm_V E w tgt ls st K P nx sl f) (kf : ∀ a, x = some a → mm_V E w (pc + 3) ls st K P nx sl (g a)) : mm_V E w pc ls (va_rf x :: st) K P nx sl (mm_on x f g) := by
  intro out ho H locs la h
  cases hx : x with
  | none => rw [hx] at ho; exact lv_ifnullN C.x C.b d ht (kt hx out ho H locs la h)
  | some a => rw [hx] at ho; exact lv_ifnull C.x C.b d (kf a hx out ho H locs la h)
theorem r_ifnonnull (C : mm_Cx E own cc nL ret FR LC) {x : Option Nat} {off : Int} {tgt : Nat} {f : Option α} {g : Nat → Option α} (d : decode cc pc = .ok (.ifnonnull off, 3)) (ht : (pc : Int) + off = (tgt : Int)) (kt : ∀ a, x = some a → mm_V E w tgt ls st K P nx sl (g a)) (kf : x = none → mm_V E w (pc + 3) ls st K P nx sl f) : mm_V E w pc ls (va_rf x :: st) K P nx sl (mm_on x f g) := by
  intro out ho H locs la h
  cases hx : x with
  | none => rw [hx] at ho; exact lv_ifnonnullN C.x C.b d (kf hx out ho H locs la h)
  | some a => rw [hx] at ho; exact lv_ifnonnull C.x C.b d ht (kt a hx out ho H locs la h)
theorem r_lookup (C : mm_Cx E own cc nL ret FR LC) {dflt : Int} {ps : Array (Int × Int)} {len : Nat} {x : Int32} {off : Int} {tgt : Nat} (d : decode cc pc = .ok (.lookupswitch dflt ps, len)) (hp : (ps.toList.zip (ps.toList.drop 1)).all (fun (a, next) => a.1 < next.1) = true) (ho : Op.lookupswitch.offset ps.toList dflt x.toInt = off) (ht : (pc : Int) + off = (tgt : Int)) (k : mm_V E w tgt ls st K P nx sl f) : mm_V E w pc ls (.int x :: st) K P nx sl f := fun out h0 H locs la h => lv_lookup C.x C.b d hp ho ht (k out h0 H locs la h)
theorem r_tableIn (C : mm_Cx E own cc nL ret FR LC) {dflt lo hi : Int} {offs : Array Int} {len : Nat} {x : Int32} {off : Int} {tgt : Nat} (d : decode cc pc = .ok (.tableswitch dflt lo hi offs, len)) (h1 : ¬ x.toInt < lo) (h2 : ¬ hi < x.toInt) (ho : offs[(x.toInt - lo).toNat]? = some off) (ht : (pc : Int) + off = (tgt : Int)) (k : mm_V E w tgt ls st K P nx sl f) : mm_V E w pc ls (.int x :: st) K P nx sl f := fun out h0 H locs la h => lv_tableIn C.x C.b d h1 h2 ho ht (k out h0 H locs la h)
theorem r_tableOut (C : mm_Cx E own cc nL ret FR LC) {dflt lo hi : Int} {offs : Array Int} {len : Nat} {x : Int32} {tgt : Nat} (d : decode cc pc = .ok (.tableswitch dflt lo hi offs, len)) (h1 : x.toInt < lo ∨ hi < x.toInt) (ht : (pc : Int) + dflt = (tgt : Int)) (k : mm_V E w tgt ls st K P nx sl f) : mm_V E w pc ls (.int x :: st) K P nx sl f := fun out h0 H locs la h => lv_tableOut C.x C.b d h1 ht (k out h0 H locs la h)
end ROWS
