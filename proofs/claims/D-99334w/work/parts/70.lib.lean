/-! THE PLAIN LAW: tools. wp: a partial function answers, and so; n32: numbers in Int32; loops; the memory's frame. -/
set_option maxRecDepth 100000
/-- an equation that holds by reduction, not to be used as one (the instances of decisions stay apt) -/
theorem nr {α : Type} {a b : α} (h : a = b) : a = b := h
def wp {β : Type} (x : Option β) (Q : β → Prop) : Prop := ∃ r, x = some r ∧ Q r
theorem wp_some {β : Type} {r : β} {Q : β → Prop} : wp (some r) Q ↔ Q r := by
  constructor
  · rintro ⟨s, h, q⟩
    cases h
    exact q
  · exact fun q => ⟨r, rfl, q⟩
theorem wp_gd {β : Type} {c : Prop} [Decidable c] {f : Option β} {Q : β → Prop} : wp (mm_gd c f) Q ↔ c ∧ wp f Q := by
  unfold mm_gd
  by_cases h : c
  · rw [if_pos h]
    exact ⟨fun q => ⟨h, q⟩, fun q => q.2⟩
  · rw [if_neg h]
    exact ⟨fun ⟨r, e, _⟩ => (nomatch e), fun q => absurd q.1 h⟩
theorem wp_bd {α β : Type} {x : Option α} {g : α → Option β} {Q : β → Prop} : wp (mm_bd x g) Q ↔ wp x (fun r => wp (g r) Q) := by
  cases x with
  | none => exact ⟨fun ⟨r, e, _⟩ => (nomatch e), fun ⟨r, e, _⟩ => (nomatch e)⟩
  | some r => exact ⟨fun h => ⟨r, rfl, h⟩, fun ⟨s, e, h⟩ => by cases e; exact h⟩
theorem wp_lt {α β : Type} {x : α} {g : α → Option β} {Q : β → Prop} : wp (mm_lt x g) Q ↔ wp (g x) Q := Iff.rfl
theorem wp_ite {β : Type} {c : Prop} [Decidable c] {a b : Option β} {Q : β → Prop} : wp (if c then a else b) Q ↔ if c then wp a Q else wp b Q := by
  by_cases h : c
  · rw [if_pos h, if_pos h]
  · rw [if_neg h, if_neg h]
theorem wp_on_n {β : Type} {f : Option β} {g : Nat → Option β} {Q : β → Prop} : wp (mm_on none f g) Q ↔ wp f Q := Iff.rfl
theorem wp_on_s {β : Type} {f : Option β} {g : Nat → Option β} {a : Nat} {Q : β → Prop} : wp (mm_on (some a) f g) Q ↔ wp (g a) Q := Iff.rfl
theorem wp_mo {β : Type} {w : β → mm_O} {n s : Nat} {x : Option β} {Q : β → Prop} : wp (mm_mo w n s x) Q ↔ wp x (fun r => (n ≤ oN (w r) ∧ s ≤ oS (w r)) ∧ Q r) := by
  unfold mm_mo
  cases x with
  | none => exact ⟨fun ⟨r, e, _⟩ => (nomatch e), fun ⟨r, e, _⟩ => (nomatch e)⟩
  | some o =>
    dsimp only
    by_cases h : n ≤ oN (w o) ∧ s ≤ oS (w o)
    · rw [if_pos h]
      exact ⟨fun ⟨r, e, q⟩ => by cases e; exact ⟨o, rfl, h, q⟩, fun ⟨r, e, q⟩ => by cases e; exact ⟨o, rfl, q.2⟩⟩
    · rw [if_neg h]
      exact ⟨fun ⟨r, e, _⟩ => (nomatch e), fun ⟨r, e, q⟩ => by cases e; exact absurd q.1 h⟩
theorem wp_mono {β : Type} {x : Option β} {Q Q' : β → Prop} (h : wp x Q) (k : ∀ r, Q r → Q' r) : wp x Q' := by
  obtain ⟨r, e, q⟩ := h
  exact ⟨r, e, k r q⟩
theorem wp_iff {c : Prop} [Decidable c] {a b : Prop} (h1 : c → a) (h2 : ¬ c → b) : if c then a else b := by
  by_cases h : c
  · rw [if_pos h]; exact h1 h
  · rw [if_neg h]; exact h2 h
theorem wp_at {β : Type} {x : Option β} {v : β} {Q : β → Prop} (e : x = some v) (q : Q v) : wp x Q := ⟨v, e, q⟩
/-- a loop: its turns by an index k up to N; Inv k: what holds ahead of turn k -/
theorem wp_loop {σ β : Type} (L : Nat → Nat → σ → Option β) (Inv : Nat → σ → Prop) {Q : β → Prop} (N : Nat)
    (step : ∀ n k s, k < N → Inv k s → (∀ s', Inv (k + 1) s' → wp (L n (k + 1) s') Q) → wp (L (n + 1) k s) Q)
    (done : ∀ n s, Inv N s → wp (L (n + 1) N s) Q) : ∀ (j fuel k : Nat) (s : σ), k + j = N → j < fuel → Inv k s → wp (L fuel k s) Q := by
  intro j
  induction j with
  | zero =>
    intro fuel k s hk hf hI
    obtain ⟨n, rfl⟩ : ∃ n, fuel = n + 1 := ⟨fuel - 1, by omega⟩
    have : k = N := by omega
    subst this
    exact done n s hI
  | succ j ih =>
    intro fuel k s hk hf hI
    obtain ⟨n, rfl⟩ : ∃ n, fuel = n + 1 := ⟨fuel - 1, by omega⟩
    exact step n k s (by omega) hI (fun s' h' => ih n (k + 1) s' (by omega) (by omega) h')
/-- the loop from its start -/
theorem wp_loop0 {σ β : Type} (L : Nat → Nat → σ → Option β) (Inv : Nat → σ → Prop) {Q : β → Prop} (N : Nat) {s : σ} (hN : N < 100000) (h0 : Inv 0 s)
    (step : ∀ n k s, k < N → Inv k s → (∀ s', Inv (k + 1) s' → wp (L n (k + 1) s') Q) → wp (L (n + 1) k s) Q)
    (done : ∀ n s, Inv N s → wp (L (n + 1) N s) Q) : wp (L mm_NF 0 s) Q := wp_loop L Inv N step done N mm_NF 0 s (by omega) hN h0
/-- the same where nothing but a number is kept, as an equation -/
theorem eq_loop0 {σ β : Type} (L : Nat → Nat → σ → Option β) (g : Nat → σ) {v : β} (N : Nat) {s : σ} (hN : N < 100000) (h0 : s = g 0)
    (step : ∀ n k, k < N → L (n + 1) k (g k) = L n (k + 1) (g (k + 1)))
    (done : ∀ n, L (n + 1) N (g N) = some v) : L mm_NF 0 s = some v := by
  have h := wp_loop0 L (fun k s => s = g k) (Q := fun r => r = v) N hN h0 (fun n k s hk hs hq => by
    subst hs
    rw [step n k hk]
    exact hq _ rfl) (fun n s hs => by
    subst hs
    rw [done n]
    exact wp_some.mpr rfl)
  obtain ⟨r, e, q⟩ := h
  rw [e, q]
/-! the memory, read behind a write -/
theorem gA_sA_eq {P : mm_P} {r a i r' a' i' : Nat} {v : Int32} (h : r' = r ∧ a' = a ∧ i' = i) : gA (sA P r a i v) r' a' i' = v := if_pos h
theorem gA_sA_ne {P : mm_P} {r a i r' a' i' : Nat} {v : Int32} (h : r' ≠ r ∨ a' ≠ a ∨ i' ≠ i) : gA (sA P r a i v) r' a' i' = gA P r' a' i' := if_neg (fun q => by omega)
theorem gL_sL_eq {P : mm_P} {r a i r' a' i' : Nat} {v : Int64} (h : r' = r ∧ a' = a ∧ i' = i) : gL (sL P r a i v) r' a' i' = v := if_pos h
theorem gL_sL_ne {P : mm_P} {r a i r' a' i' : Nat} {v : Int64} (h : r' ≠ r ∨ a' ≠ a ∨ i' ≠ i) : gL (sL P r a i v) r' a' i' = gL P r' a' i' := if_neg (fun q => by omega)
theorem gB_sB_eq {P : mm_P} {r a i r' a' i' : Nat} {v : Option Nat} (h : r' = r ∧ a' = a ∧ i' = i) : gB (sB P r a i v) r' a' i' = v := if_pos h
theorem gB_sB_ne {P : mm_P} {r a i r' a' i' : Nat} {v : Option Nat} (h : r' ≠ r ∨ a' ≠ a ∨ i' ≠ i) : gB (sB P r a i v) r' a' i' = gB P r' a' i' := if_neg (fun q => by omega)
theorem gI_sI_eq {P : mm_P} {c a c' a' : Nat} {v : Int32} (h : c' = c ∧ a' = a) : gI (sI P c a v) c' a' = v := if_pos h
theorem gI_sI_ne {P : mm_P} {c a c' a' : Nat} {v : Int32} (h : c' ≠ c ∨ a' ≠ a) : gI (sI P c a v) c' a' = gI P c' a' := if_neg (fun q => by omega)
theorem gR_sR_eq {P : mm_P} {c a c' a' : Nat} {v : Option Nat} (h : c' = c ∧ a' = a) : gR (sR P c a v) c' a' = v := if_pos h
theorem gR_sR_ne {P : mm_P} {c a c' a' : Nat} {v : Option Nat} (h : c' ≠ c ∨ a' ≠ a) : gR (sR P c a v) c' a' = gR P c' a' := if_neg (fun q => by omega)
theorem gJ_sJ_eq {P : mm_P} {c a c' a' : Nat} {v : Int64} (h : c' = c ∧ a' = a) : gJ (sJ P c a v) c' a' = v := if_pos h
theorem gJ_sJ_ne {P : mm_P} {c a c' a' : Nat} {v : Int64} (h : c' ≠ c ∨ a' ≠ a) : gJ (sJ P c a v) c' a' = gJ P c' a' := if_neg (fun q => by omega)
theorem gI_sR (P : mm_P) (c0 a0 : Nat) (v : Option Nat) (c x : Nat) : gI (sR P c0 a0 v) c x = gI P c x := nr rfl
theorem gI_sJ (P : mm_P) (c0 a0 : Nat) (v : Int64) (c x : Nat) : gI (sJ P c0 a0 v) c x = gI P c x := nr rfl
theorem gI_sA (P : mm_P) (c0 a0 i0 : Nat) (v : Int32) (c x : Nat) : gI (sA P c0 a0 i0 v) c x = gI P c x := nr rfl
theorem gI_sB (P : mm_P) (c0 a0 i0 : Nat) (v : Option Nat) (c x : Nat) : gI (sB P c0 a0 i0 v) c x = gI P c x := nr rfl
theorem gI_sL (P : mm_P) (c0 a0 i0 : Nat) (v : Int64) (c x : Nat) : gI (sL P c0 a0 i0 v) c x = gI P c x := nr rfl
theorem gR_sI (P : mm_P) (c0 a0 : Nat) (v : Int32) (c x : Nat) : gR (sI P c0 a0 v) c x = gR P c x := nr rfl
theorem gR_sJ (P : mm_P) (c0 a0 : Nat) (v : Int64) (c x : Nat) : gR (sJ P c0 a0 v) c x = gR P c x := nr rfl
theorem gR_sA (P : mm_P) (c0 a0 i0 : Nat) (v : Int32) (c x : Nat) : gR (sA P c0 a0 i0 v) c x = gR P c x := nr rfl
theorem gR_sB (P : mm_P) (c0 a0 i0 : Nat) (v : Option Nat) (c x : Nat) : gR (sB P c0 a0 i0 v) c x = gR P c x := nr rfl
theorem gR_sL (P : mm_P) (c0 a0 i0 : Nat) (v : Int64) (c x : Nat) : gR (sL P c0 a0 i0 v) c x = gR P c x := nr rfl
theorem gJ_sI (P : mm_P) (c0 a0 : Nat) (v : Int32) (c x : Nat) : gJ (sI P c0 a0 v) c x = gJ P c x := nr rfl
theorem gJ_sR (P : mm_P) (c0 a0 : Nat) (v : Option Nat) (c x : Nat) : gJ (sR P c0 a0 v) c x = gJ P c x := nr rfl
theorem gJ_sA (P : mm_P) (c0 a0 i0 : Nat) (v : Int32) (c x : Nat) : gJ (sA P c0 a0 i0 v) c x = gJ P c x := nr rfl
theorem gJ_sB (P : mm_P) (c0 a0 i0 : Nat) (v : Option Nat) (c x : Nat) : gJ (sB P c0 a0 i0 v) c x = gJ P c x := nr rfl
theorem gJ_sL (P : mm_P) (c0 a0 i0 : Nat) (v : Int64) (c x : Nat) : gJ (sL P c0 a0 i0 v) c x = gJ P c x := nr rfl
theorem gA_sI (P : mm_P) (c0 a0 : Nat) (v : Int32) (c x i : Nat) : gA (sI P c0 a0 v) c x i = gA P c x i := nr rfl
theorem gA_sR (P : mm_P) (c0 a0 : Nat) (v : Option Nat) (c x i : Nat) : gA (sR P c0 a0 v) c x i = gA P c x i := nr rfl
theorem gA_sJ (P : mm_P) (c0 a0 : Nat) (v : Int64) (c x i : Nat) : gA (sJ P c0 a0 v) c x i = gA P c x i := nr rfl
theorem gA_sB (P : mm_P) (c0 a0 i0 : Nat) (v : Option Nat) (c x i : Nat) : gA (sB P c0 a0 i0 v) c x i = gA P c x i := nr rfl
theorem gA_sL (P : mm_P) (c0 a0 i0 : Nat) (v : Int64) (c x i : Nat) : gA (sL P c0 a0 i0 v) c x i = gA P c x i := nr rfl
theorem gB_sI (P : mm_P) (c0 a0 : Nat) (v : Int32) (c x i : Nat) : gB (sI P c0 a0 v) c x i = gB P c x i := nr rfl
theorem gB_sR (P : mm_P) (c0 a0 : Nat) (v : Option Nat) (c x i : Nat) : gB (sR P c0 a0 v) c x i = gB P c x i := nr rfl
theorem gB_sJ (P : mm_P) (c0 a0 : Nat) (v : Int64) (c x i : Nat) : gB (sJ P c0 a0 v) c x i = gB P c x i := nr rfl
theorem gB_sA (P : mm_P) (c0 a0 i0 : Nat) (v : Int32) (c x i : Nat) : gB (sA P c0 a0 i0 v) c x i = gB P c x i := nr rfl
theorem gB_sL (P : mm_P) (c0 a0 i0 : Nat) (v : Int64) (c x i : Nat) : gB (sL P c0 a0 i0 v) c x i = gB P c x i := nr rfl
theorem gL_sI (P : mm_P) (c0 a0 : Nat) (v : Int32) (c x i : Nat) : gL (sI P c0 a0 v) c x i = gL P c x i := nr rfl
theorem gL_sR (P : mm_P) (c0 a0 : Nat) (v : Option Nat) (c x i : Nat) : gL (sR P c0 a0 v) c x i = gL P c x i := nr rfl
theorem gL_sJ (P : mm_P) (c0 a0 : Nat) (v : Int64) (c x i : Nat) : gL (sJ P c0 a0 v) c x i = gL P c x i := nr rfl
theorem gL_sA (P : mm_P) (c0 a0 i0 : Nat) (v : Int32) (c x i : Nat) : gL (sA P c0 a0 i0 v) c x i = gL P c x i := nr rfl
theorem gL_sB (P : mm_P) (c0 a0 i0 : Nat) (v : Option Nat) (c x i : Nat) : gL (sB P c0 a0 i0 v) c x i = gL P c x i := nr rfl
/-- what lies outside of W is unchanged -/
def fr (W : Nat → Nat → Prop) (P P' : mm_P) : Prop := ∀ c a, ¬ W c a → gI P' c a = gI P c a ∧ gR P' c a = gR P c a ∧ gJ P' c a = gJ P c a ∧ (∀ i, gA P' c a i = gA P c a i) ∧ (∀ i, gB P' c a i = gB P c a i) ∧ ∀ i, gL P' c a i = gL P c a i
theorem fr_refl (W : Nat → Nat → Prop) (P : mm_P) : fr W P P := fun _ _ _ => ⟨rfl, rfl, rfl, fun _ => rfl, fun _ => rfl, fun _ => rfl⟩
theorem fr.trans {W : Nat → Nat → Prop} {P P1 P2 : mm_P} (h1 : fr W P P1) (h2 : fr W P1 P2) : fr W P P2 := by
  intro c a h
  obtain ⟨a1, a2, a3, a4, a5, a6⟩ := h1 c a h
  obtain ⟨b1, b2, b3, b4, b5, b6⟩ := h2 c a h
  exact ⟨b1.trans a1, b2.trans a2, b3.trans a3, fun i => (b4 i).trans (a4 i), fun i => (b5 i).trans (a5 i), fun i => (b6 i).trans (a6 i)⟩
theorem fr.mono {W W' : Nat → Nat → Prop} {P P1 : mm_P} (h1 : fr W P P1) (h : ∀ c a, W c a → W' c a) : fr W' P P1 := fun c a hn => h1 c a (fun q => hn (h c a q))
theorem fr_sA {W : Nat → Nat → Prop} {P P0 : mm_P} {r a i : Nat} {v : Int32} (h : fr W P0 P) (w : W r a) : fr W P0 (sA P r a i v) := by
  refine h.trans fun c b hn => ⟨rfl, rfl, rfl, fun j => gA_sA_ne ?_, fun _ => rfl, fun _ => rfl⟩
  by_cases e : c = r ∧ b = a
  · obtain ⟨rfl, rfl⟩ := e
    exact absurd w hn
  · omega
theorem fr_sB {W : Nat → Nat → Prop} {P P0 : mm_P} {r a i : Nat} {v : Option Nat} (h : fr W P0 P) (w : W r a) : fr W P0 (sB P r a i v) := by
  refine h.trans fun c b hn => ⟨rfl, rfl, rfl, fun _ => rfl, fun j => gB_sB_ne ?_, fun _ => rfl⟩
  by_cases e : c = r ∧ b = a
  · obtain ⟨rfl, rfl⟩ := e
    exact absurd w hn
  · omega
theorem fr_sL {W : Nat → Nat → Prop} {P P0 : mm_P} {r a i : Nat} {v : Int64} (h : fr W P0 P) (w : W r a) : fr W P0 (sL P r a i v) := by
  refine h.trans fun c b hn => ⟨rfl, rfl, rfl, fun _ => rfl, fun _ => rfl, fun j => gL_sL_ne ?_⟩
  by_cases e : c = r ∧ b = a
  · obtain ⟨rfl, rfl⟩ := e
    exact absurd w hn
  · omega
theorem fr_sI {W : Nat → Nat → Prop} {P P0 : mm_P} {r a : Nat} {v : Int32} (h : fr W P0 P) (w : W r a) : fr W P0 (sI P r a v) := by
  refine h.trans fun c b hn => ⟨gI_sI_ne ?_, rfl, rfl, fun _ => rfl, fun _ => rfl, fun _ => rfl⟩
  by_cases e : c = r ∧ b = a
  · obtain ⟨rfl, rfl⟩ := e
    exact absurd w hn
  · omega
theorem fr_sR {W : Nat → Nat → Prop} {P P0 : mm_P} {r a : Nat} {v : Option Nat} (h : fr W P0 P) (w : W r a) : fr W P0 (sR P r a v) := by
  refine h.trans fun c b hn => ⟨rfl, gR_sR_ne ?_, rfl, fun _ => rfl, fun _ => rfl, fun _ => rfl⟩
  by_cases e : c = r ∧ b = a
  · obtain ⟨rfl, rfl⟩ := e
    exact absurd w hn
  · omega
theorem fr_sJ {W : Nat → Nat → Prop} {P P0 : mm_P} {r a : Nat} {v : Int64} (h : fr W P0 P) (w : W r a) : fr W P0 (sJ P r a v) := by
  refine h.trans fun c b hn => ⟨rfl, rfl, gJ_sJ_ne ?_, fun _ => rfl, fun _ => rfl, fun _ => rfl⟩
  by_cases e : c = r ∧ b = a
  · obtain ⟨rfl, rfl⟩ := e
    exact absurd w hn
  · omega
/-! the steps as equations -/
theorem gd_pos {α : Type} {c : Prop} [Decidable c] {f : Option α} (h : c) : mm_gd c f = f := if_pos h
theorem gd_true {α : Type} {d : Decidable True} {f : Option α} : @mm_gd α True d f = f := if_pos trivial
theorem bd_some {α β : Type} {r : β} {g : β → Option α} : mm_bd (some r) g = g r := nr rfl
theorem lt_eq {α β : Type} {x : β} {g : β → α} : mm_lt x g = g x := nr rfl
theorem on_some {α : Type} {a : Nat} {f : Option α} {g : Nat → Option α} : mm_on (some a) f g = g a := nr rfl
theorem on_none {α : Type} {f : Option α} {g : Nat → Option α} : mm_on none f g = f := nr rfl
theorem l_0 : (0 : Int32) = n32 0 := nr rfl
theorem l_1 : (1 : Int32) = n32 1 := nr rfl
theorem l_2 : (2 : Int32) = n32 2 := nr rfl
theorem l_3 : (3 : Int32) = n32 3 := nr rfl
theorem l_4 : (4 : Int32) = n32 4 := nr rfl
theorem l_5 : (5 : Int32) = n32 5 := nr rfl
theorem l_6 : (6 : Int32) = n32 6 := nr rfl
theorem l_7 : (7 : Int32) = n32 7 := nr rfl
theorem l_8 : (8 : Int32) = n32 8 := nr rfl
theorem l_9 : (9 : Int32) = n32 9 := nr rfl
theorem l_10 : (10 : Int32) = n32 10 := nr rfl
theorem l_11 : (11 : Int32) = n32 11 := nr rfl
theorem l_12 : (12 : Int32) = n32 12 := nr rfl
theorem l_13 : (13 : Int32) = n32 13 := nr rfl
theorem l_14 : (14 : Int32) = n32 14 := nr rfl
theorem l_15 : (15 : Int32) = n32 15 := nr rfl
theorem l_16 : (16 : Int32) = n32 16 := nr rfl
theorem l_17 : (17 : Int32) = n32 17 := nr rfl
theorem l_18 : (18 : Int32) = n32 18 := nr rfl
theorem l_19 : (19 : Int32) = n32 19 := nr rfl
theorem l_20 : (20 : Int32) = n32 20 := nr rfl
theorem l_21 : (21 : Int32) = n32 21 := nr rfl
theorem l_22 : (22 : Int32) = n32 22 := nr rfl
theorem l_23 : (23 : Int32) = n32 23 := nr rfl
theorem l_24 : (24 : Int32) = n32 24 := nr rfl
theorem l_25 : (25 : Int32) = n32 25 := nr rfl
theorem l_26 : (26 : Int32) = n32 26 := nr rfl
theorem l_27 : (27 : Int32) = n32 27 := nr rfl
theorem l_28 : (28 : Int32) = n32 28 := nr rfl
theorem l_29 : (29 : Int32) = n32 29 := nr rfl
theorem l_30 : (30 : Int32) = n32 30 := nr rfl
theorem l_31 : (31 : Int32) = n32 31 := nr rfl
theorem l_32 : (32 : Int32) = n32 32 := nr rfl
theorem l_38 : (38 : Int32) = n32 38 := nr rfl
theorem l_40 : (40 : Int32) = n32 40 := nr rfl
theorem l_41 : (41 : Int32) = n32 41 := nr rfl
theorem l_42 : (42 : Int32) = n32 42 := nr rfl
theorem l_43 : (43 : Int32) = n32 43 := nr rfl
theorem l_45 : (45 : Int32) = n32 45 := nr rfl
theorem l_48 : (48 : Int32) = n32 48 := nr rfl
theorem l_54 : (54 : Int32) = n32 54 := nr rfl
theorem l_56 : (56 : Int32) = n32 56 := nr rfl
theorem l_57 : (57 : Int32) = n32 57 := nr rfl
theorem l_59 : (59 : Int32) = n32 59 := nr rfl
theorem l_60 : (60 : Int32) = n32 60 := nr rfl
theorem l_61 : (61 : Int32) = n32 61 := nr rfl
theorem l_63 : (63 : Int32) = n32 63 := nr rfl
theorem l_68 : (68 : Int32) = n32 68 := nr rfl
theorem l_76 : (76 : Int32) = n32 76 := nr rfl
theorem l_96 : (96 : Int32) = n32 96 := nr rfl
theorem l_97 : (97 : Int32) = n32 97 := nr rfl
theorem l_99 : (99 : Int32) = n32 99 := nr rfl
theorem l_100 : (100 : Int32) = n32 100 := nr rfl
theorem l_101 : (101 : Int32) = n32 101 := nr rfl
theorem l_102 : (102 : Int32) = n32 102 := nr rfl
theorem l_103 : (103 : Int32) = n32 103 := nr rfl
theorem l_104 : (104 : Int32) = n32 104 := nr rfl
theorem l_105 : (105 : Int32) = n32 105 := nr rfl
theorem l_106 : (106 : Int32) = n32 106 := nr rfl
theorem l_108 : (108 : Int32) = n32 108 := nr rfl
theorem l_122 : (122 : Int32) = n32 122 := nr rfl
theorem l_124 : (124 : Int32) = n32 124 := nr rfl
theorem l_126 : (126 : Int32) = n32 126 := nr rfl
theorem l_132 : (132 : Int32) = n32 132 := nr rfl
theorem l_255 : (255 : Int32) = n32 255 := nr rfl
theorem l_1000 : (1000 : Int32) = n32 1000 := nr rfl
theorem l_1100 : (1100 : Int32) = n32 1100 := nr rfl
theorem l_1134 : (1134 : Int32) = n32 1134 := nr rfl
theorem l_1135 : (1135 : Int32) = n32 1135 := nr rfl
theorem l_1148 : (1148 : Int32) = n32 1148 := nr rfl
theorem l_1154 : (1154 : Int32) = n32 1154 := nr rfl
theorem l_1188 : (1188 : Int32) = n32 1188 := nr rfl
theorem l_1202 : (1202 : Int32) = n32 1202 := nr rfl
theorem l_9999 : (9999 : Int32) = n32 9999 := nr rfl
