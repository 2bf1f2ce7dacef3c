/-! names for class tables; lines of a day; small ints -/
set_option maxRecDepth 100000
abbrev mm_isL (k : Nat) : Prop := 15 ≤ k ∧ k ≤ 19
theorem mm_isL_or {k : Nat} (h : mm_isL k) : k = 15 ∨ k = 16 ∨ k = 17 ∨ k = 18 ∨ k = 19 := by
  obtain ⟨h1, h2⟩ := h
  omega
def mm_nC (x : Int32) : Int32 := x.toUInt32.toUInt16.toUInt32.toInt32
def mm_nB (x : Int32) : Int32 := x.toInt8.toInt32
def mm_nZ (x : Int32) : Int32 := x &&& 1
theorem mm_nC_n {x : Int32} (h : mm_nC x = x) : narrow .char (.int x) = .int x := by
  show Value.int (mm_nC x) = _
  rw [h]
theorem mm_nB_n {x : Int32} (h : mm_nB x = x) : narrow .byte (.int x) = .int x := by
  show Value.int (mm_nB x) = _
  rw [h]
theorem mm_nZ_n {x : Int32} (h : mm_nZ x = x) : narrow .boolean (.int x) = .int x := by
  show Value.int (mm_nZ x) = _
  rw [h]
theorem mm_nC_f {x : Int32} (h : mm_nC x = x) : fits .char (.int x) = true := by
  have e : mm_nC x = (x.toUInt32 % 65536).toInt32 := by
    unfold mm_nC
    congr 1
  rw [← h, e]
  exact pk_fc x
theorem mm_nB_f {x : Int32} (h : mm_nB x = x) : fits .byte (.int x) = true := by
  rw [← h]
  exact pk_fb x
theorem mm_nZ_f {x : Int32} (h : mm_nZ x = x) : fits .boolean (.int x) = true := by
  rw [← h]
  obtain ⟨j, hj, e⟩ := pk_andE x (m := 1) 1 (by decide)
  unfold mm_nZ
  rw [e]
  match j, hj with
  | 0, _ => rfl
  | 1, _ => rfl
theorem r_ltK {α : Type} {E : mm_E} {w : α → mm_O} {pc : Nat} {ls : List (Option Value)} {st : List Value} {K : mm_K} {P : mm_P} {nx sl : Nat} {g : mm_K → Option α} (k : ∀ Q : mm_K, Q = K → mm_V E w pc ls st Q P nx sl (g Q)) : mm_V E w pc ls st K P nx sl (mm_lt K g) := k K rfl
theorem mm_bd_some {α β : Type} {x : Option β} {g : β → Option α} {o : α} (h : mm_bd x g = some o) : ∃ r, x = some r ∧ g r = some o := by
  cases x with
  | none => cases h
  | some r => exact ⟨r, rfl, h⟩
theorem mm_ro_of {K : mm_K} {a k : Nat} (h : K.1 a = k) (h2 : mm_ro k = false) : mm_ro (K.1 a) = false := by rw [h]; exact h2
