/-! EXCEPTIONS: methods that return or throw; which of both, the memory tells -/
set_option maxRecDepth 100000
abbrev mm_X (β : Type) : Type := β ⊕ (Nat × mm_S)
def mm_wX {β : Type} (w : β → mm_O) : mm_X β → mm_O
  | .inl r => w r
  | .inr t => (some (.retAddr t.1), t.2)
def mm_bx {α β : Type} (x : Option (mm_X β)) (g : β → Option (mm_X α)) : Option (mm_X α) := match x with
  | none => none
  | some (.inl r) => g r
  | some (.inr t) => some (.inr t)
/-- .. and caught here -/
def mm_bc {α β : Type} (x : Option (mm_X β)) (h : Nat × mm_S → Option α) (g : β → Option α) : Option α := match x with
  | none => none
  | some (.inl r) => g r
  | some (.inr t) => h t
def mm_CT (l : Launch) (y : MethodName) (ws : List Cond) (fr lc : Nat) (argv : List Value) (K : mm_K) (P : mm_P) (nx sl : Nat) (o : mm_O) (q : Nat) : Prop :=
  nx ≤ oN o ∧ sl ≤ oS o ∧ ∀ (D : va_G) (cA : mm_G) (A0 : Nat → Prop), MetFree l y (headSpec ws ({ frames := fr, cells := oN o - nx, slots := oS o - sl, locals := lc } : Room)) (va_Pc argv (mm_Pc D cA A0 K P nx)) (fun _ _ _ _ _ => True) (mm_Qt D cA A0 o q (oN o - nx) (oS o - sl))
def mm_CX (l : Launch) (y : MethodName) (ws : List Cond) (fr lc : Nat) (argv : List Value) (K : mm_K) (P : mm_P) (nx sl : Nat) (o : mm_O) : Prop := match mm_thr o with
  | some q => mm_CT l y ws fr lc argv K P nx sl o q
  | none => mm_C l y ws fr lc argv K P nx sl o
def mm_Q0 (D : va_G) (cA : mm_G) (A0 : Nat → Prop) (o : mm_O) (mc ms : Nat) : Array Value → State → Outcome → State → Prop := match mm_thr o with
  | some q => mm_Qt D cA A0 o q mc ms
  | none => fun a st oc t => mm_Qc D cA A0 o a st oc t ∧ ∃ L, FrameEnd st oc t L mc ms ∧ ∀ q ∈ L, A0 q.base
theorem mm_Q_0 {E : mm_E} {o : mm_O} {t : State} (h : mm_Q E o t) : ∃ oc, t.status = .running ∧ Ended t (eB E) oc ∧ mm_Q0 (eD E) (eF E) (eA E) o (oN o - eN E) (oS o - eO E) (eV E) (eS E) oc t := by
  unfold mm_Q at h
  unfold mm_Q0
  generalize mm_thr o = z at h ⊢
  cases z with
  | some q => exact h
  | none => exact h
/-- a method that may throw, its table tbl -/
theorem mm_startX {l : Launch} {y : MethodName} {cc : ByteArray} {maxL fr lc : Nat} {ret : Option FieldType} {argv : List Value} {K : mm_K} {P : mm_P} {nx sl : Nat} {α : Type} {w : α → mm_O} {x : Option α} {out : α} {ls : List (Option Value)} (hx : x = some out) (hy : plainName y.cls = true) (hlen : (lg_sl argv).length ≤ maxL) (hls : mm_of 0 maxL (lv_args 0 argv) = ls) (hn : nx ≤ oN (w out)) (hs : sl ≤ oS (w out))
    (body : ∀ E : mm_E, eL E = l → eN E = nx → eO E = sl → (∀ z ∈ (eC E).exceptionTable.toList, False) → mm_Cx E y.cls cc maxL ret fr lc → mm_V E w 0 ls [] K P nx sl x) : mm_CX l y (ws_ y cc maxL ret) fr lc argv K P nx sl (w out) := by
  have key : ∀ (D : va_G) (cA : mm_G) (A0 : Nat → Prop), MetFree l y (headSpec (ws_ y cc maxL ret) ({ frames := fr, cells := oN (w out) - nx, slots := oS (w out) - sl, locals := lc } : Room)) (va_Pc argv (mm_Pc D cA A0 K P nx)) (fun _ _ _ _ _ => True) (mm_Q0 D cA A0 (w out) (oN (w out) - nx) (oS (w out) - sl)) := by
    intro D cA A0
    refine MetFree.of_bodyS (code := cc) (maxLocals := maxL) (ret := ret) hy ?_ ?_
    · intro args s m h hn
      obtain ⟨meth, c, h1, h2, h3, h4, h5, h6, -, -⟩ := Cond.code_spec hn (atoms_spec (ws := ws_ y cc maxL ret) h _ List.mem_cons_self)
      exact ⟨meth, c, h1, h2, h3, h4, h5, h6⟩
    · intro p e s m args below meth c s₁ B hml hv _
      have hh0 : s₁.heap = s.heap := by rw [B.state]; rfl
      have ht : ∀ z ∈ c.exceptionTable.toList, False := by
        obtain ⟨meth9, c9, h1, h2, -, -, -, -, h7, -⟩ := Cond.code_spec B.named (atoms_spec (ws := ws_ y cc maxL ret) B.pre _ List.mem_cons_self)
        cases Option.some.inj (h1.symm.trans B.method)
        cases Option.some.inj (h2.symm.trans (Stand.of_body B).code)
        intro z hz
        rw [Array.isEmpty_iff.mp h7] at hz
        cases hz
      obtain ⟨rfl, hsz, hW, hK, hA, hN, hZ, hO⟩ := hv
      have hts0 := atoms_spec (ws := ws_ y cc maxL ret) B.pre
      have hts : ∀ w ∈ lw_all, w.before _ s = true := fun w h => hts0 w (List.mem_cons_of_mem _ h)
      have hown : s.vm.findClass y.cls = some m.cls := findClass_of_methodNamed B.named
      have hl := lv_entry argv (n := maxL) hlen
      have hWk : W p l e ({ frames := fr, cells := oN (w out) - nx, slots := oS (w out) - sl, locals := lc } : Room) s m argv.toArray below meth c s.heap [] 0 0 (mm_Q (p, l, e, ({ frames := fr, cells := oN (w out) - nx, slots := oS (w out) - sl, locals := lc } : Room), s, m, argv.toArray, below, meth, c, D, cA, A0, nx, sl) (w out)) (entryFrame m argv.toArray maxL) := by
        rw [lg_entry_eq]
        generalize (lg_sl argv ++ List.replicate (maxL - (lg_sl argv).length) Slot.unset).toArray = la at hl ⊢
        have h0 := body (p, l, e, ({ frames := fr, cells := oN (w out) - nx, slots := oS (w out) - sl, locals := lc } : Room), s, m, argv.toArray, below, meth, c, D, cA, A0, nx, sl) rfl rfl rfl ht
          ⟨B.exec, B.bytes, hml, hown, hts, hK, fun q hq => hA q (by rw [← hsz]; exact hq), B.notSynchronized, rfl, rfl, hN, B.returns, hsz, hZ, hO⟩ out hx s.heap [] la
          ⟨⟨hl.1.trans hml.symm, hl.2.1, fun i v hi => by rw [← hls] at hi; have := mm_of_at _ _ _ hi; rw [Nat.zero_add] at this; exact hl.2.2 (i, v) this⟩, hW, hsz, ⟨Nat.le_refl _, hn⟩, ⟨Nat.le_refl _, hs⟩, va_S.rf, Nat.le_refl _, Nat.le_refl _⟩
        have e1 : nx - nx = 0 := Nat.sub_self _
        have e2 : sl - sl = 0 := Nat.sub_self _
        unfold mm_T at h0
        dsimp only [eP, eL, eE, eR, eS, eM, eV, eB, eT, eC, eN, eO] at h0
        rw [e1, e2] at h0
        exact h0
      obtain ⟨t, a1, hq⟩ := hWk s₁ hh0 (Stand.of_body B)
      obtain ⟨oc, b1, b2, b3⟩ := mm_Q_0 hq
      exact ⟨t, oc, a1, b1, b2, b3⟩
  unfold mm_CX
  unfold mm_Q0 at key
  cases hthr : mm_thr (w out) with
  | some q => rw [hthr] at key; exact ⟨hn, hs, key⟩
  | none => rw [hthr] at key; exact ⟨hn, hs, key⟩
section EXC
variable {p : Program} {l : Launch} {e : Env} {R : Room} {s : State} {m : MethodId} {args : Array Value} {below : List Frame} {meth : Method} {c : Code} {T : State} {locs : List Loc} {cells slots : Nat}
def mm_PT (D : va_G) (cA : mm_G) (A0 : Nat → Prop) (o : mm_O) (q mc ms : Nat) : Pt → Array Value → Addr → Pt → Prop := fun A _ x B => x = q ∧ ∃ (st₀ t : State) (L : List Loc), st₀.heap = A.U.heap ∧ B.U.heap = t.heap ∧ B.U.vm = t.vm ∧ mm_W D cA A0 (oK o) (oP o) t.heap ∧ t.heap.size = oN o ∧ va_F A0 st₀ t ∧ B.locs = A.locs ++ L ∧ (∀ z ∈ L, A0 z.base) ∧ B.cells = A.cells + mc ∧ B.slots = A.slots + ms
theorem mm_BT {y : MethodName} {W9 : Nat} {ws : List Cond} {rm : Room} {Pc : Array Value → State → Prop} {D : va_G} {cA : mm_G} {A0 : Nat → Prop} {o : mm_O} {q mc ms : Nat} {bytes : ByteArray} {maxL : Nat} {ret : Option FieldType}
    (hM : MetFree l y (headSpec ws rm) Pc (fun _ _ _ _ _ => True) (mm_Qt D cA A0 o q mc ms)) (hblind : FrameBlind Pc) (hrc : rm.cells = mc) (hrs : rm.slots = ms)
    (hframes : rm.frames + 1 ≤ R.frames) (hlocals : W9 + (maxL + 11) + rm.locals ≤ R.locals)
    (hws : ∀ w ∈ ws, ∀ a' U, s.WarmedH U.vm → w.before a' U = true) (hcode : Cond.code y bytes maxL ret ∈ ws) (hinit : ∀ a' U, s.WarmedH U.vm → (Cond.initialized y.cls).before a' U = true) :
    BackT l R p e below s args y 3 W9 (PreOf R mc ms Pc) (mm_PT D cA A0 o q mc ms) := by
  refine BackT.of_free (S := headSpec ws rm) (E := fun a first o t L k n => k = mc ∧ n = ms ∧ ∀ z ∈ L, A0 z.base) (bytes := bytes) (maxL := maxL) (ret := ret) hM hframes hlocals ?_ ?_ ?_ ?_ ?_
  · intro m meth c A a X hp
    exact ⟨atoms_intro fun w hw => hws w hw _ _ X.warmed, hws _ hcode _ _ X.warmed, hinit _ _ X.warmed, by rw [show (headSpec ws rm).room.cells = mc from hrc]; exact hp.1, by rw [show (headSpec ws rm).room.slots = ms from hrs]; exact hp.2.1⟩
  · intro m meth c A a g mk X hp
    exact hblind _ _ _ _ hp.2.2
  · intro m meth c A a g mk X hp
    trivial
  · intro a first o' t h
    obtain ⟨h1, h2, h3, h4, h5, L, h6, h7⟩ := h
    exact ⟨L, mc, ms, ⟨⟨q, h1⟩, h5, h6⟩, rfl, rfl, h7⟩
  · intro m meth c A a g mk v t L k n X hp hq hfe hE
    obtain ⟨h1, h2, h3, h4, h5, L', h6, h7⟩ := hq
    obtain ⟨rfl, rfl, hL⟩ := hE
    cases h1
    exact ⟨rfl, A.U.calling g mk a, t, L, rfl, rfl, rfl, h2, h3, h4, rfl, hL, rfl, rfl⟩
theorem mm_thrV (X : Stand p l e R s m args below meth c T locs cells slots) (hexec : p.tables.exec = Jvm.exec) {own C : String} {index : Nat} {y : MethodName} {bytes : ByteArray} {maxL : Nat} {ret : Option FieldType}
    (hown : s.vm.findClass own = some m.cls) (hlink : (Cond.methodLink own index y).before args s = true) (hinst : (Cond.instanceMethod y).before args s = true) (hsel : (Cond.selects C y y).before args s = true)
    (hcode : (Cond.code y bytes maxL ret).before args s = true) (hy : y.cls ≠ "java/lang/invoke/MethodHandle" ∧ y.cls ≠ "java/lang/invoke/VarHandle")
    {W9 : Nat} {Pre : Pt → Array Value → Prop} {Post : Pt → Array Value → Addr → Pt → Prop} (hK : BackT l R p e below s args y 3 W9 Pre Post)
    {b : Addr} {cellB : Cell} (hcell : T.heap[b]? = some cellB) (hobj : cellB.vm.isStatics = false) (hcls : s.vm.findClass C = some cellB.cls)
    {g : JFrame} (hg : g.method = m) (hsize : g.locals.size = c.maxLocals) {argsL rest : List Value} (hlen : ∀ sig, parseMethodDescriptor y.desc = some sig → argsL.length = sig.parameters.length)
    (hstack : g.stack = argsL.reverse ++ .ref b :: rest) (hW : 2 * g.monitorRoom + (rest.map fun v => v.category).sum ≤ W9) (hdg : decode c.code g.pc = .ok (.invokevirtual index, 3))
    (hpre : ∀ vm₁, s.WarmedH vm₁ → Pre ⟨T.setVm vm₁, locs, cells, slots⟩ (Value.ref b :: argsL).toArray) :
    ∃ (q : Addr) (vm₁ : Vm) (B : Pt), s.WarmedH vm₁ ∧ Stand p l e R s m args below meth c B.U B.locs B.cells B.slots ∧ Post ⟨T.setVm vm₁, locs, cells, slots⟩ (Value.ref b :: argsL).toArray q B ∧
      Steps p.tables e below (T.setTop g) ((B.U.setTop { g with stack := rest }).pushFrame (.throwing q)) := by
  obtain ⟨mk, methM, hnamed, hmethM, hstM, habM⟩ := Cond.instanceMethod_spec hinst
  obtain ⟨methM', cM, hmethM', -, -, -, -, -, -, hsigM⟩ := Cond.code_spec hnamed hcode
  cases hmethM.symm.trans hmethM'
  obtain ⟨c2, r2, m2, q1, q2, q3, q4, kP, hkP, hkPi⟩ := Cond.selects_spec hsel
  cases hcls.symm.trans q1
  cases (State.methodFound?_of_named hnamed hy).symm.trans q2
  cases hnamed.symm.trans q3
  have hselP : selectMethod e.platform s.vm cellB.cls mk = .method mk := by rw [Launch.admits_selectMethod X.admits]; exact q4
  obtain ⟨vm₁, X₁, hstep₁⟩ := X.invokevirtual hexec hown hlink hnamed hmethM hstM hkP hkPi hy (a := b) (cell := cellB) hcell
    (fun z h => by rw [h] at hobj; cases hobj) hselP hmethM habM hkP hkPi (g := g) hg (argsL := argsL) (rest := rest) (hlen _ hsigM) hstack hdg
  obtain ⟨v, B, X', hpost, hsteps⟩ := hK m meth c ⟨T.setVm vm₁, locs, cells, slots⟩ { g with stack := rest } (.invokevirtual index) mk (Value.ref b :: argsL).toArray X₁ hg hsize hdg hW (X₁.named hnamed) (hpre vm₁ X₁.warmed)
  exact ⟨v, vm₁, B, X₁.warmed, X', hpost, hstep₁ _ fun acts => by rw [doInvoke_state]; exact hsteps⟩
end EXC
section EXR
variable {α : Type} {E : mm_E} {own : String} {cc : ByteArray} {nL : Nat} {ret : Option FieldType} {FR LC : Nat} {w : α → mm_O} {pc : Nat} {ls : List (Option Value)} {st st0 : List Value} {K : mm_K} {P : mm_P} {nx sl : Nat} {f : Option α}
/-- q is on its way, the method stands at pc: what it owes -/
def mm_TX (E : mm_E) (o : mm_O) (pc : Nat) (st : List Value) (nx sl : Nat) (H : Heap) (locs : List Loc) (la : Array Slot) (q : Nat) : Prop :=
  ∀ T : State, T.heap = H → Stand (eP E) (eL E) (eE E) (eR E) (eS E) (eM E) (eV E) (eB E) (eT E) (eC E) T locs (nx - eN E) (sl - eO E) → ∃ t, Steps (eP E).tables (eE E) (eB E) ((T.setTop (F0 (eM E) pc la st)).pushFrame (.throwing q)) t ∧ mm_Q E o t
/-- not caught: it leaves the method -/
theorem mm_outX (C : mm_Cx E own cc nL ret FR LC) (hT : ∀ z ∈ (eC E).exceptionTable.toList, covers z pc = false) {o : mm_O} {q : Nat} {H : Heap} {locs : List Loc} {la : Array Slot} (ho : o = (some (.retAddr q), K, P, nx, sl)) (hI : mm_I E o ls K P nx sl H locs la) : mm_TX E o pc st nx sl H locs la q := by
  subst ho
  obtain ⟨hls, hW, hsz, hn1, hs1, hS, hc1, hc2⟩ := hI
  intro T hTh X
  obtain ⟨st1, hrun, hend, hWm, hsm⟩ := X.leaveThrown q (g := F0 (eM E) pc la st) rfl rfl rfl hT C.lk
  refine ⟨_, st1, ?_⟩
  rw [mm_Q_t (q := q) rfl]
  refine ⟨.threw q, hrun, hend, rfl, ?_, ?_, ?_, hWm, locs, hsm, hS.2.2⟩
  · show mm_W _ _ _ K P T.heap
    rw [hTh]
    exact hW
  · show T.heap.size = nx
    rw [hTh]
    exact hsz
  · exact hS.F (t := T.setFrames (.throwing q :: eB E)) (show T.heap = H from hTh)
theorem r_athrow (C : mm_Cx E own cc nL ret FR LC) (hT : ∀ z ∈ (eC E).exceptionTable.toList, covers z pc = false) {q : Nat} {out : α} (dd : decode cc pc = .ok (.athrow, 1)) (hw : w out = (some (.retAddr q), K, P, nx, sl)) : mm_V E w pc ls (.ref q :: st) K P nx sl (some out) := by
  intro out' ho H locs la hI
  cases ho
  intro T hTh X
  obtain ⟨t, st1, hq⟩ := mm_outX (st := st) C hT hw hI T hTh X
  refine ⟨t, ?_, hq⟩
  have hexec := C.x
  have hdg' : decode (eC E).code pc = .ok (.athrow, 1) := by rw [C.b]; exact dd
  jvm_step X.here [X.here.top, hexec, hdg', athrow.wp_sem]
  exact st1
/-- behind a call that threw -/
theorem mm_thrown (C : mm_Cx E own cc nL ret FR LC) {index n k maxL fr lc b q : Nat} {y : MethodName} {bytes : ByteArray} {rt : Option FieldType} {As : List Value} {o : mm_O} (hM : mm_CT (eL E) y (ws_ y bytes maxL rt) fr lc (.ref b :: As) K P nx sl o q) (cv : mm_CV own index y bytes maxL rt n k) (hk : K.1 b = k) (hlen : As.length = n) (hfr : fr + 1 ≤ FR) (hlc : 8 + (maxL + 11) + lc ≤ LC) (hst : st0 = As.reverse ++ .ref b :: st) (hw : (st.map fun v => v.category).sum ≤ 8) (dd : decode cc pc = .ok (.invokevirtual index, 3))
    {H : Heap} {locs : List Loc} {la : Array Slot} {o1 : mm_O} (h3 : oN o ≤ oN o1) (h4 : oS o ≤ oS o1) (hI : mm_I E o1 ls K P nx sl H locs la)
    (kk : ∀ (H1 : Heap) (locs1 : List Loc), mm_I E o1 ls (oK o) (oP o) (oN o) (oS o) H1 locs1 la → mm_TX E o1 pc st (oN o) (oS o) H1 locs1 la q) : mm_T E o1 pc st0 nx sl H locs la := by
  obtain ⟨Cn, TT, N, l, hg, hd, hc, hf⟩ := cv
  obtain ⟨h1, h2, hM⟩ := hM
  have hrv := va_recv C.k (mm_P1 (hI.2.1.at (mm_cell_obj (cA := (eF E).1) (P := P) hk hf))) hc (q0 := 0) rfl
  have cw : CallW (eR E) (eS E) (eV E) own Cn index y bytes maxL rt (ws_ y bytes maxL rt) ({ frames := fr, cells := oN o - nx, slots := oS o - sl, locals := lc } : Room) (oN o - nx) (oS o - sl) n := cwV n C.ts hg rfl rfl rfl hd ⟨by rw [C.fr]; exact hfr, by rw [C.lc]; exact hlc⟩
  have hpre := mm_pre (argv := .ref b :: As) (w := fun _ : Unit => o1) (out := ()) C hI
  obtain ⟨⟨hrc, hrs, hfr', hlo, hws, hcw, hcode, hini, hy, hlen', hl⟩, hin, hse⟩ := cw
  obtain ⟨hls, hW, hsz, hn1, hs1, hS, hc1, hc2⟩ := hI
  intro T hTh X
  have hK := mm_BT (R := eR E) (p := eP E) (e := eE E) (below := eB E) (s := eS E) (args := eV E) (W9 := 8) (bytes := bytes) (maxL := maxL) (ret := rt) (hM (eD E) (eF E) (eA E)) mm_blind hrc hrs hfr' hlo hws hcw (fun a' U hW => word_at hW (Or.inl (by first | rfl | simp [Cond.onTables, Cond.keeps, Cond.steady])) hini)
  obtain ⟨cellB, hcB, hoB, hclB⟩ := hrv
  obtain ⟨q', vm₁, ⟨U', l2, c2, s2⟩, hW₁, X', ⟨hq, st₀, t, L, g0, e1, e2, g3, g4, g5, g6, hL, g7, g8⟩, stp⟩ := mm_thrV X C.x (C := Cn) (bytes := bytes) (maxL := maxL) (ret := rt) C.ow hl hin hse hcode hy hK (by rw [hTh]; exact hcB) hoB hclB (g := F0 (eM E) pc la st0) rfl hls.1 (argsL := As) (rest := st) (fun sig h => hlen.trans (hlen' sig h)) hst (lv_room hw) (by rw [C.b]; exact dd)
    (fun vm₁ hW₁ => ⟨by dsimp only [Pt.cells]; omega, by dsimp only [Pt.slots]; omega, hpre (T.setVm vm₁) hTh hW₁⟩)
  subst hq
  dsimp only [Pt.U, Pt.locs, Pt.cells, Pt.slots] at X' e1 e2 g0 g6 g7 g8 stp
  subst g6; subst g7; subst g8
  have e3 : nx - eN E + (oN o - nx) = oN o - eN E := by omega
  have e4 : sl - eO E + (oS o - sl) = oS o - eO E := by omega
  rw [e3, e4] at X'
  obtain ⟨hz, hk9⟩ := g5
  have g0' : st₀.heap = H := g0.trans hTh
  rw [g0'] at hz hk9
  obtain ⟨t2, a1, b1⟩ := kk U'.heap (locs ++ L) ⟨hls, by rw [e1]; exact g3, by rw [e1]; exact g4, ⟨Nat.le_trans hn1.1 h1, h3⟩, ⟨Nat.le_trans hs1.1 h2, h4⟩,
    ⟨Nat.le_trans hS.1 (by rw [e1]; exact hz), fun z z1 z2 => by rw [e1, hk9 z (Nat.lt_of_lt_of_le z1 hS.1) z2]; exact hS.2.1 z z1 z2, fun z hzz => by
      rcases List.mem_append.mp hzz with h | h
      · exact hS.2.2 z h
      · exact hL z h⟩, hc1, hc2⟩ U' rfl X'
  exact ⟨t2, stp.trans a1, b1⟩
theorem r_thrV (C : mm_Cx E own cc nL ret FR LC) (hT : ∀ z ∈ (eC E).exceptionTable.toList, covers z pc = false) {index n k maxL fr lc b q : Nat} {y : MethodName} {bytes : ByteArray} {rt : Option FieldType} {As : List Value} {o : mm_O} (hM : mm_CT (eL E) y (ws_ y bytes maxL rt) fr lc (.ref b :: As) K P nx sl o q) (cv : mm_CV own index y bytes maxL rt n k) (hk : K.1 b = k) (hlen : As.length = n) (hfr : fr + 1 ≤ FR) (hlc : 8 + (maxL + 11) + lc ≤ LC) (hst : st0 = As.reverse ++ .ref b :: st) (hw : (st.map fun v => v.category).sum ≤ 8) (dd : decode cc pc = .ok (.invokevirtual index, 3))
    {out : α} (hwo : w out = o) (ho : o.1 = some (.retAddr q)) : mm_V E w pc ls st0 K P nx sl (some out) := by
  intro out' he H locs la hI
  cases he
  subst hwo
  exact mm_thrown C hM cv hk hlen hfr hlc hst hw dd (Nat.le_refl _) (Nat.le_refl _) hI fun H1 locs1 hI1 => mm_outX C hT (by rw [← ho]) hI1
/-- caught here, by the one row of the table -/
theorem r_catV (C : mm_Cx E own cc nL ret FR LC) {x : ExceptionTableEntry} (hT : (eC E).exceptionTable.toList = [x]) (hx : covers x pc = true) (h0 : x.catchType ≠ 0) {hp : Nat} (hhp : x.handlerPc = hp) {nm Cn : String} {TT : u_T} {NN kq : Nat} {lq : List mm_F} (hlink : Cond.classLink own x.catchType nm ∈ lw_all) (hcast : Cn = nm ∨ Cond.castable Cn nm ∈ nw_all) (hcn : mm_cl[mm_ci kq]? = some (Cn, TT, NN)) (hfq : mm_fd kq = some lq)
    {index n k maxL fr lc b q : Nat} {y : MethodName} {bytes : ByteArray} {rt : Option FieldType} {As : List Value} {o : mm_O} (hM : mm_CT (eL E) y (ws_ y bytes maxL rt) fr lc (.ref b :: As) K P nx sl o q) (hkq : (oK o).1 q = kq) (cv : mm_CV own index y bytes maxL rt n k) (hk : K.1 b = k) (hlen : As.length = n) (hfr : fr + 1 ≤ FR) (hlc : 8 + (maxL + 11) + lc ≤ LC) (hst : st0 = As.reverse ++ .ref b :: st) (hw : (st.map fun v => v.category).sum ≤ 8) (dd : decode cc pc = .ok (.invokevirtual index, 3))
    (kk : mm_V E w hp ls [.ref q] (oK o) (oP o) (oN o) (oS o) f) : mm_V E w pc ls st0 K P nx sl (mm_mo w (oN o) (oS o) f) := by
  subst hhp
  intro out he H locs la hI
  obtain ⟨ho1, hm1, hm2⟩ := mm_mo_some he
  refine mm_thrown C hM cv hk hlen hfr hlc hst hw dd hm1 hm2 hI fun H1 locs1 hI1 => ?_
  intro T hTh X
  have hpl : (eE E).platform.magicAccessors = ({} : Platform).magicAccessors := by rw [X.admits.platform]
  obtain ⟨cell, hcell, hobj, hcls⟩ := va_recv C.k (mm_P1 (hI1.2.1.at (mm_cell_obj (cA := (eF E).1) (P := oP o) hkq hfq))) hcn (q0 := 0) rfl
  obtain ⟨c5, hc5, hcl5⟩ := Cond.classLink_spec C.ow (C.ts _ hlink) (eE E).platform hpl
  have hasg : (eS E).vm.assignable cell.cls c5 = true := by
    rcases hcast with rfl | hcast
    · have hca := (C.k.1 _ _ hcn).2
      have e1 := Option.some.inj (hc5.symm.trans hca.1)
      have e2 := Option.some.inj (hcls.symm.trans hca.1)
      rw [e1, e2]
      exact va_assign hca
    · exact vb_asgC (C.nw _ hcast) c5 cell.cls hc5 hcls
  obtain ⟨vm', X', stp⟩ := X.thenCaughtThrough q (g := F0 (eM E) pc la st) rfl (Steps.refl _) (by rw [hTh]; exact hcell) hobj (by obtain ⟨k9, h9, -⟩ := Vm.findClass_spec hcls; exact ⟨k9, h9⟩) [] x [] hT (fun z hz => nomatch hz) hx (Or.inr ⟨h0, c5, hcl5, hasg⟩)
  obtain ⟨t, a1, b1⟩ := kk out ho1 H1 locs1 la hI1 (T.setVm vm') hTh X'
  exact ⟨t, stp.trans a1, b1⟩
theorem r_bx {β : Type} {w : α → mm_O} {x : Option (mm_X β)} {g : β → Option (mm_X α)} (k1 : ∀ r, x = some (.inl r) → mm_V E (mm_wX w) pc ls st K P nx sl (g r)) (k2 : ∀ t, x = some (.inr t) → mm_V E (mm_wX w) pc ls st K P nx sl (some (.inr t))) : mm_V E (mm_wX w) pc ls st K P nx sl (mm_bx x g) := by
  cases hx : x with
  | none => intro out ho; cases ho
  | some r =>
    cases r with
    | inl r => exact k1 r hx
    | inr t => exact k2 t hx
theorem r_bc {β : Type} {x : Option (mm_X β)} {h : Nat × mm_S → Option α} {g : β → Option α} (k1 : ∀ r, x = some (.inl r) → mm_V E w pc ls st K P nx sl (g r)) (k2 : ∀ t, x = some (.inr t) → mm_V E w pc ls st K P nx sl (h t)) : mm_V E w pc ls st K P nx sl (mm_bc x h g) := by
  cases hx : x with
  | none => intro out ho; cases ho
  | some r =>
    cases r with
    | inl r => exact k1 r hx
    | inr t => exact k2 t hx
end EXR
theorem mm_CX_n {l : Launch} {y : MethodName} {ws : List Cond} {fr lc : Nat} {argv : List Value} {K : mm_K} {P : mm_P} {nx sl : Nat} {o : mm_O} (h : mm_CX l y ws fr lc argv K P nx sl o) (ho : mm_thr o = none) : mm_C l y ws fr lc argv K P nx sl o := by
  unfold mm_CX at h
  rw [ho] at h
  exact h
theorem mm_CX_t {l : Launch} {y : MethodName} {ws : List Cond} {fr lc : Nat} {argv : List Value} {K : mm_K} {P : mm_P} {nx sl : Nat} {o : mm_O} {q : Nat} (h : mm_CX l y ws fr lc argv K P nx sl o) (ho : mm_thr o = some q) : mm_CT l y ws fr lc argv K P nx sl o q := by
  unfold mm_CX at h
  rw [ho] at h
  exact h
/-- a region of a class's array field, told by class, place -/
def mm_rgS (r o ek n k : Nat) : Prop := mm_ro k = false ∧ ∃ j, r = 128 * k + j ∧ o ≠ 0 ∧ mm_ad k o = some (ek, n, j)
theorem mm_rgS_rg {K : mm_K} {r o ek n k a : Nat} (hs : mm_rgS r o ek n k) (hk : K.1 a = k) : mm_reg K r a o ek n := by
  obtain ⟨-, j, h1, h2, h3⟩ := hs
  exact Or.inl ⟨k, j, h1, hk, h2, h3⟩
theorem mm_rgS_ro {K : mm_K} {r o ek n k a : Nat} (hs : mm_rgS r o ek n k) (hk : K.1 a = k) : mm_ro (K.1 a) = false := by
  rw [hk]
  exact hs.1
theorem r_ldcSw {α : Type} {E : mm_E} {cc : ByteArray} {nL : Nat} {ret : Option FieldType} {FR LC : Nat} {w : α → mm_O} {pc : Nat} {ls : List (Option Value)} {st : List Value} {K : mm_K} {P : mm_P} {nx sl : Nat} (C : mm_Cx E RX2 cc nL ret FR LC) {index i : Nat} {tx : String} {g : Nat → Option α} (hq : (i, index, tx) ∈ mm_strs) (hi : i < 11) (dd : decode cc pc = .ok (.ldc_w index, 3)) (kk : ∀ b, gR P (10 + i) 0 = some b → mm_V E w (pc + 3) ls (.ref b :: st) K P nx sl (g b)) : mm_V E w pc ls st K P nx sl (mm_bd (gR P (10 + i) 0) g) := by
  refine r_bd fun b hb => ?_
  intro out ho H locs la hI
  have h := kk b hb out ho H locs la hI
  obtain ⟨-, -, -, -, g0⟩ := C.ao
  obtain ⟨a, g1, g2⟩ := g0 _ hq
  have e := hI.2.1.1 (10 + i) (by omega)
  rw [hb, g1] at e
  cases e
  intro T hT X
  obtain ⟨t, a1, b1⟩ := h T hT X
  exact ⟨t, X.ldcStringW C.x C.ow (text := tx) (a := b) g2.1 g2.2 (g := F0 (eM E) pc la st) rfl (by rw [C.b]; exact dd) t a1, b1⟩
theorem mm_isC_of {K : mm_K} {a k : Nat} (h : K.1 a = k) (hk : mm_isC k) : mm_isC (K.1 a) := by rw [h]; exact hk
