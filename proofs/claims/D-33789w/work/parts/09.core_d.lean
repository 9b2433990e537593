/-! contracts and calls -/
abbrev Res : Type := ((Nat × String) ⊕ Option Value) × HH
def QQ (D : va_G) (dA : Nat → ClassId) (h0 : HH) (res : Res) (st : State) (o : Outcome) (t : State) : Prop :=
  ∃ L : List Loc, st.WarmedH t.vm ∧ st.sameButNew ({ t with vm := st.vm } : State) L (hSz res.2 - hSz h0) (hSl res.2 - hSl h0) ∧ (∀ z ∈ L, fA h0 z.base) ∧ HD D dA res.2 t.heap ∧ res.2.1 = h0.1 ∧ hSz h0 ≤ hSz res.2 ∧ hSl h0 ≤ hSl res.2 ∧ va_F (fA h0) st t ∧
    (match res.1 with
      | .inr v => o = .returned v
      | .inl qE => o = .threw qE.1 ∧ ∃ ce : Cell, t.heap[qE.1]? = some ce ∧ ce.vm = .none ∧ st.vm.findClass qE.2 = some ce.cls)
def RQ (D : va_G) (dA : Nat → ClassId) (h0 : HH) (res : Res) (below : List Frame) (s : State) : State → Prop := fun t => ∃ o, t.status = .running ∧ Ended t below o ∧ QQ D dA h0 res s o t
def codeW (y : MethodName) (b : ByteArray) (n : Nat) (r : Option FieldType) (hh : List (Nat × Nat × Nat × Nat)) : Cond := match hh with
  | [] => Cond.code y b n r
  | q :: qs => Cond.codeWith y b n r (q :: qs)
theorem codeW_spec {y : MethodName} {b : ByteArray} {n : Nat} {r : Option FieldType} {hh : List (Nat × Nat × Nat × Nat)} {args : Array Value} {s : State} (h : (codeW y b n r hh).before args s = true) :
    ∃ m meth c, s.methodNamed? y = some m ∧ s.vm.method? m = some meth ∧ meth.code = some c ∧ c.code = b ∧ c.maxLocals = n ∧ c.exceptionTable.toList = tableOf hh ∧ meth.sig.returnType = r ∧ meth.locks = false ∧ parseMethodDescriptor y.desc = some meth.sig := by
  cases hh with
  | nil =>
    obtain ⟨m, hn⟩ := Cond.code_named h
    obtain ⟨meth, c, h1, h2, h3, h4, h5, h6, h7, h8⟩ := Cond.code_spec hn h
    refine ⟨m, meth, c, hn, h1, h2, h3, h4, ?_, h5, h6, h8⟩
    rw [Array.isEmpty_iff.mp h7]
    rfl
  | cons q qs =>
    obtain ⟨m, meth, c, hn, h1, h2, h3, h4, h5, h6, h7, h8⟩ := Cond.codeWith_spec h
    refine ⟨m, meth, c, hn, h1, h2, h3, h4, ?_, h6, h7, h8⟩
    rw [← h5, table_eq]
abbrev wsC (y : MethodName) (b : ByteArray) (n : Nat) (r : Option FieldType) (hh : List (Nat × Nat × Nat × Nat)) : List Cond := codeW y b n r hh :: lw_all
abbrev rmC (h : HH) (fr lo : Nat) : Room := { frames := fr, cells := hLim h - hSz h, slots := hSlim h - hSl h, locals := lo }
def MC (D : va_G) (dA : Nat → ClassId) (l : Launch) (y : MethodName) (b : ByteArray) (n : Nat) (r : Option FieldType) (hh : List (Nat × Nat × Nat × Nat)) (fr lo : Nat) (As : List Value) (h : HH) (res : Res) : Prop :=
  MetFree l y (headSpec (wsC y b n r hh) (rmC h fr lo)) (fun a U => a = As.toArray ∧ HD D dA h U.heap ∧ KD D dA h U ∧ ST h U U.heap) (fun _ _ _ _ _ => True) (fun _ st o t => QQ D dA h res st o t)
def argL : List Value → List (Option Value)
  | [] => []
  | v :: vs => some v :: (if v.category = 2 then none :: argL vs else argL vs)
theorem argL_mem : ∀ (vs : List Value) (k i : Nat) (v : Value), (argL vs)[i]? = some (some v) → (k + i, v) ∈ lv_args k vs
  | [], k, i, v, h => by simp [argL] at h
  | w :: vs, k, 0, v, h => by
    simp [argL] at h
    subst h
    simp [lv_args]
  | w :: vs, k, i + 1, v, h => by
    simp only [argL, List.getElem?_cons_succ] at h
    unfold lv_args
    refine List.mem_cons_of_mem _ ?_
    by_cases c2 : w.category = 2
    · rw [if_pos c2] at h ⊢
      cases i with
      | zero => simp at h
      | succ i =>
        simp only [List.getElem?_cons_succ] at h
        have := argL_mem vs (k + 2) i v h
        rwa [show k + 2 + i = k + (i + 1 + 1) by omega] at this
    · rw [if_neg c2] at h ⊢
      have := argL_mem vs (k + 1) i v h
      rwa [show k + 1 + i = k + (i + 1) by omega] at this
theorem mc_of {l : Launch} {D : va_G} {dA : Nat → ClassId} {y : MethodName} {cc : ByteArray} {maxL fr lo : Nat} {ret : Option FieldType} {hh : List (Nat × Nat × Nat × Nat)} {As : List Value} {h : HH} {res : Res} (hl : l.stackTraces = false) (hy : plainFor y = true) (hent : (lg_sl As).length ≤ maxL)
    (body : ∀ (p : Program) (e : Env) (s : State) (m : MethodId) (args : Array Value) (below : List Frame) (meth : Method) (c : Code) (R : Room), R.frames = fr → R.locals = lo → FX p l s m args meth R c cc maxL y.cls D dA h hh → meth.sig.returnType = ret → meth.name = y.name → G p l e R s m args below meth c (RQ D dA h res below s) D dA h maxL h 0 (argL As) []) : MC D dA l y cc maxL ret hh fr lo As h res := by
  refine MetFree.of_bodySF (code := cc) (maxLocals := maxL) (ret := ret) hy ?_ ?_
  · intro args s m hw hn
    obtain ⟨m9, meth, c, hn9, h1, h2, h3, h4, -, h5, h6, -⟩ := codeW_spec (atoms_spec (ws := wsC y cc maxL ret hh) hw _ List.mem_cons_self)
    cases hn.symm.trans hn9
    exact ⟨meth, c, h1, h2, h3, h4, h5, h6⟩
  · intro p e s m args below meth c s₁ B hml hP _
    obtain ⟨rfl, hHD, hKD, hST⟩ := hP
    have hh0 : s₁.heap = s.heap := by rw [B.state]; rfl
    have hts := atoms_spec (ws := wsC y cc maxL ret hh) B.pre
    have htab : c.exceptionTable.toList = tableOf hh := by
      obtain ⟨m9, meth9, c9, hn9, h1, h2, -, -, h6, -⟩ := codeW_spec (hts _ List.mem_cons_self)
      cases Option.some.inj (hn9.symm.trans B.named)
      cases Option.some.inj (h1.symm.trans B.method)
      cases Option.some.inj (h2.symm.trans (Stand.of_body B).code)
      exact h6
    have hz := hHD.2
    have X : FX p l s m As.toArray meth (headSpec (wsC y cc maxL ret hh) (rmC h fr lo)).room c cc maxL y.cls D dA h hh := by
      refine ⟨B.exec, B.bytes, hml, findClass_of_methodNamed B.named, fun w hw => hts w (List.mem_cons_of_mem _ hw), hKD, hST, B.notSynchronized, hz.1, ?_, ?_, hl, hz.2.1, htab⟩
      · show hLim h - hSz h + hSz h = hLim h
        omega
      · show hSlim h - hSl h + hSl h = hSlim h
        omega
    have hlv := lv_entry As (n := maxL) hent
    have w := body p e s m As.toArray below meth c _ rfl rfl X B.returns (name_of_methodNamed B.named B.method).1 s.heap [] 0 0 _ hHD rfl va_S.rf (by omega) (by omega) (show lvr _ maxL (argL As) from ⟨hlv.1, hlv.2.1, fun q hq => by
      obtain ⟨i, v⟩ := q
      have := argL_mem As 0 i v (mem_PL.mp hq)
      rw [Nat.zero_add] at this
      exact hlv.2.2 _ this⟩)
    obtain ⟨t, a1, o, b1, b2, b3⟩ := w s₁ hh0 (Stand.of_body B)
    rw [lg_entry_eq]
    exact ⟨t, o, a1, b1, b2, b3⟩
section GQ
variable {p : Program} {l : Launch} {e : Env} {R : Room} {s : State} {m : MethodId} {args : Array Value} {below : List Frame} {meth : Method} {c : Code} {Q : State → Prop} {D : va_G} {dA : Nat → ClassId} {h0 : HH} {nL : Nat} {h : HH} {pc : Nat} {L : List (Option Value)} {st : List Value} {cc : ByteArray} {own : String} {hh : List (Nat × Nat × Nat × Nat)}
theorem ret_conv {v : Option Value} {cells slots : Nat} {H : Heap} (a1 : HD D dA h H) (a2 : h.1 = h0.1) (a4 : cells + hSz h0 = hSz h) (a5 : slots + hSl h0 = hSl h) {t : State} (k : MQ below (fun _ st o t => o = .returned v ∧ HD D dA h t.heap ∧ va_F (fA h0) st t) args s cells slots (fA h0) t) : RQ D dA h0 (.inr v, h) below s t := by
  obtain ⟨o, r1, r2, ⟨r3, r4, r5⟩, L, ⟨⟨v', hv'⟩, hW, hsame⟩, hL⟩ := k
  have e1 : hSz h - hSz h0 = cells := by omega
  have e2 : hSl h - hSl h0 = slots := by omega
  refine ⟨o, r1, r2, L, hW, ?_, hL, r4, a2, by show hSz h0 ≤ hSz h; omega, by show hSl h0 ≤ hSl h; omega, r5, r3⟩
  show s.sameButNew _ L (hSz h - hSz h0) (hSl h - hSl h0)
  rw [e1, e2]
  exact hsame
theorem W.mono {H : Heap} {locs : List Loc} {cells slots : Nat} {Q1 Q2 : State → Prop} {g : JFrame} (hq : ∀ t, Q1 t → Q2 t) (k : W p l e R s m args below meth c H locs cells slots Q1 g) : W p l e R s m args below meth c H locs cells slots Q2 g := fun T hT X => by
  obtain ⟨t, a, b⟩ := k T hT X
  exact ⟨t, a, hq t b⟩
theorem g_iret (X : FX p l s m args meth R c cc nL own D dA h0 hh) {v : Int32} (hr : meth.sig.returnType = some .int) (d : decode cc pc = .ok (.ireturn, 1)) : G p l e R s m args below meth c (RQ D dA h0 (.inr (some (.int v)), h) below s) D dA h0 nL h pc L [.int v] := fun H locs cells slots ls a1 a2 a3 a4 a5 a6 =>
  W.mono (fun t k => ret_conv a1 a2 a4 a5 k) (W.iret X.1 X.2.1 hr (fun t ht hW => ⟨rfl, by rw [ht]; exact a1, a3.F ht⟩) a3.2.2 d X.2.2.2.2.2.2.2.1)
theorem g_zret (X : FX p l s m args meth R c cc nL own D dA h0 hh) {v : Int32} {ty : FieldType} (hr : meth.sig.returnType = some ty) (hn : narrow ty (.int v) = .int v) (d : decode cc pc = .ok (.ireturn, 1)) : G p l e R s m args below meth c (RQ D dA h0 (.inr (some (.int v)), h) below s) D dA h0 nL h pc L [.int v] := fun H locs cells slots ls a1 a2 a3 a4 a5 a6 =>
  W.mono (fun t k => ret_conv a1 a2 a4 a5 k) (W.zret X.1 X.2.1 hr hn (fun t ht hW => ⟨rfl, by rw [ht]; exact a1, a3.F ht⟩) a3.2.2 d X.2.2.2.2.2.2.2.1)
theorem g_lret (X : FX p l s m args meth R c cc nL own D dA h0 hh) {v : Int64} (hr : meth.sig.returnType = some .long) (d : decode cc pc = .ok (.lreturn, 1)) : G p l e R s m args below meth c (RQ D dA h0 (.inr (some (.long v)), h) below s) D dA h0 nL h pc L [.long v] := fun H locs cells slots ls a1 a2 a3 a4 a5 a6 =>
  W.mono (fun t k => ret_conv a1 a2 a4 a5 k) (W.lret X.1 X.2.1 hr (fun t ht hW => ⟨rfl, by rw [ht]; exact a1, a3.F ht⟩) a3.2.2 d X.2.2.2.2.2.2.2.1)
theorem g_fret (X : FX p l s m args meth R c cc nL own D dA h0 hh) {v : UInt32} (hr : meth.sig.returnType = some .float) (d : decode cc pc = .ok (.freturn, 1)) : G p l e R s m args below meth c (RQ D dA h0 (.inr (some (.float v)), h) below s) D dA h0 nL h pc L [.float v] := fun H locs cells slots ls a1 a2 a3 a4 a5 a6 =>
  W.mono (fun t k => ret_conv a1 a2 a4 a5 k) (W.fret X.1 X.2.1 hr (fun t ht hW => ⟨rfl, by rw [ht]; exact a1, a3.F ht⟩) a3.2.2 d X.2.2.2.2.2.2.2.1)
theorem g_vret (X : FX p l s m args meth R c cc nL own D dA h0 hh) (hr : meth.sig.returnType = none) (d : decode cc pc = .ok (.return_, 1)) : G p l e R s m args below meth c (RQ D dA h0 (.inr none, h) below s) D dA h0 nL h pc L [] := fun H locs cells slots ls a1 a2 a3 a4 a5 a6 =>
  W.mono (fun t k => ret_conv a1 a2 a4 a5 k) (W.vret X.1 X.2.1 hr (fun t ht hW => ⟨rfl, by rw [ht]; exact a1, a3.F ht⟩) a3.2.2 d X.2.2.2.2.2.2.2.1)
theorem g_aret (X : FX p l s m args meth R c cc nL own D dA h0 hh) {r : Option Nat} {rt : FieldType} (hr : meth.sig.returnType = some rt) (hrt : (∃ n, rt = .object n) ∨ ∃ t, rt = .array t) (d : decode cc pc = .ok (.areturn, 1)) : G p l e R s m args below meth c (RQ D dA h0 (.inr (some (va_rf r)), h) below s) D dA h0 nL h pc L [va_rf r] := fun H locs cells slots ls a1 a2 a3 a4 a5 a6 =>
  W.mono (fun t k => ret_conv a1 a2 a4 a5 k) (W.aret X.1 X.2.1 hr hrt (by cases r; exact Or.inl rfl; exact Or.inr ⟨_, rfl⟩) (fun t ht hW => ⟨rfl, by rw [ht]; exact a1, a3.F ht⟩) a3.2.2 d X.2.2.2.2.2.2.2.1)
/-! exceptions over a frame -/
def GX (p : Program) (l : Launch) (e : Env) (R : Room) (s : State) (m : MethodId) (args : Array Value) (below : List Frame) (meth : Method) (c : Code) (Q : State → Prop) (D : va_G) (dA : Nat → ClassId) (h0 : HH) (nL : Nat) (h : HH) (pc : Nat) (L : List (Option Value)) (qE : Nat × String) : Prop :=
  ∀ (H : Heap) (locs : List Loc) (cells slots : Nat) (ls : Array Slot) (rest : List Value) (ce : Cell), HD D dA h H → h.1 = h0.1 → va_S (fA h0) s.heap H locs → cells + hSz h0 = hSz h → slots + hSl h0 = hSl h → lvr ls nL L → H[qE.1]? = some ce → ce.vm = .none → s.vm.findClass qE.2 = some ce.cls → vx_W p l e R s m args below meth c H locs cells slots Q (F0 m pc ls rest) qE.1
theorem gx_out (X : FX p l s m args meth R c cc nL own D dA h0 hh) {qE : Nat × String} (hout : ∀ x ∈ tableOf hh, covers x pc = false) : GX p l e R s m args below meth c (RQ D dA h0 (.inl qE, h) below s) D dA h0 nL h pc L qE := by
  intro H locs cells slots ls rest ce a1 a2 a3 a4 a5 a6 hcell hv hcl T hT XS
  have htab := X.2.2.2.2.2.2.2.2.2.2.2.2.2
  obtain ⟨st1, hrun, hend, hW, hsm⟩ := XS.leaveThrown qE.1 (g := F0 m pc ls rest) rfl rfl rfl (by rw [htab]; exact hout) X.2.2.2.2.2.2.2.1
  have e1 : hSz h - hSz h0 = cells := by omega
  have e2 : hSl h - hSl h0 = slots := by omega
  refine ⟨_, st1, .threw qE.1, hrun, hend, locs, hW, ?_, a3.2.2, ?_, a2, by show hSz h0 ≤ hSz h; omega, by show hSl h0 ≤ hSl h; omega, a3.F (by exact hT), rfl, ce, ?_, hv, hcl⟩
  · show s.sameButNew _ locs (hSz h - hSz h0) (hSl h - hSl h0)
    rw [e1, e2]
    exact hsm
  · show HD D dA h T.heap
    rw [hT]; exact a1
  · show T.heap[qE.1]? = some ce
    rw [hT]; exact hcell
theorem gx_catch (X : FX p l s m args meth R c cc nL own D dA h0 hh) {qE : Nat × String} {name : String} (pre : List ExceptionTableEntry) (x : ExceptionTableEntry) (suf : List ExceptionTableEntry) (hsplit : tableOf hh = pre ++ x :: suf)
    (hpass : ∀ z ∈ pre, covers z pc = false ∨ (z.catchType ≠ 0 ∧ ∃ nm : String, (Cond.classLink own z.catchType nm) ∈ lw_all ∧ va_Nc qE.2 nm s)) (hx : covers x pc = true) (hc0 : x.catchType ≠ 0)
    (hlink : Cond.classLink own x.catchType name ∈ lw_all) (hcast : Cond.castable qE.2 name ∈ nwl) (k : G p l e R s m args below meth c Q D dA h0 nL h x.handlerPc L [va_rf (some qE.1)]) : GX p l e R s m args below meth c Q D dA h0 nL h pc L qE := by
  intro H locs cells slots ls rest ce a1 a2 a3 a4 a5 a6 hcell hv hcl
  have htab := X.2.2.2.2.2.2.2.2.2.2.2.2.2
  refine vx_catch (own := own) (name := name) X.2.2.2.1 pre x suf (by rw [htab]; exact hsplit) ?_ hx hc0 (X.2.2.2.2.1 _ hlink) (va_Nw.use rfl (X.2.2.2.2.2.1.2.2.1 _ hcast)) hcell hv hcl (k H locs cells slots ls a1 a2 a3 a4 a5 a6)
  intro z hz
  rcases hpass z hz with h1 | ⟨h1, nm, h2, h3⟩
  · exact Or.inl h1
  · exact Or.inr ⟨h1, nm, X.2.2.2.2.1 _ h2, h3⟩
def AfterC (p : Program) (l : Launch) (e : Env) (R : Room) (s : State) (m : MethodId) (args : Array Value) (below : List Frame) (meth : Method) (c : Code) (Q : State → Prop) (D : va_G) (dA : Nat → ClassId) (h0 : HH) (nL : Nat) (pc : Nat) (L : List (Option Value)) (rest : List Value) (res : Res) : Prop := match res.1 with
  | .inr v => G p l e R s m args below meth c Q D dA h0 nL res.2 (pc + 3) L (v.toList ++ rest)
  | .inl qE => GX p l e R s m args below meth c Q D dA h0 nL res.2 pc L qE
theorem ac_v {rest : List Value} {v : Value} (k : G p l e R s m args below meth c Q D dA h0 nL h (pc + 3) L (v :: rest)) : AfterC p l e R s m args below meth c Q D dA h0 nL pc L rest (.inr (some v), h) := k
theorem ac_0 {rest : List Value} (k : G p l e R s m args below meth c Q D dA h0 nL h (pc + 3) L rest) : AfterC p l e R s m args below meth c Q D dA h0 nL pc L rest (.inr none, h) := k
theorem ac_x {rest : List Value} {qE : Nat × String} (k : GX p l e R s m args below meth c Q D dA h0 nL h pc L qE) : AfterC p l e R s m args below meth c Q D dA h0 nL pc L rest (.inl qE, h) := k
def PreM (D : va_G) (dA : Nat → ClassId) (R : Room) (hc : HH) (As : List Value) : Pt → Array Value → Prop := fun A a => A.cells + (hLim hc - hSz hc) ≤ R.cells ∧ A.slots + (hSlim hc - hSl hc) ≤ R.slots ∧ a = As.toArray ∧ HD D dA hc A.U.heap ∧ KD D dA hc A.U ∧ ST hc A.U A.U.heap
def EndM (D : va_G) (dA : Nat → ClassId) (hc : HH) (res : Res) (A B : Pt) : Prop := ∃ L : List Loc, HD D dA res.2 B.U.heap ∧ res.2.1 = hc.1 ∧ hSz hc ≤ hSz res.2 ∧ hSl hc ≤ hSl res.2 ∧ A.U.heap.size ≤ B.U.heap.size ∧ (∀ q : Nat, q < A.U.heap.size → ¬ fA hc q → B.U.heap[q]? = A.U.heap[q]?) ∧ B.locs = A.locs ++ L ∧ (∀ z ∈ L, fA hc z.base) ∧ B.cells = A.cells + (hSz res.2 - hSz hc) ∧ B.slots = A.slots + (hSl res.2 - hSl hc)
def PostM (D : va_G) (dA : Nat → ClassId) (hc : HH) (res : Res) : Pt → Array Value → Option Value → Pt → Prop := fun A _ v B => res.1 = .inr v ∧ EndM D dA hc res A B
def PostMX (D : va_G) (dA : Nat → ClassId) (hc : HH) (res : Res) : Pt → Array Value → Addr → Pt → Prop := fun A _ q B => ∃ (E : String) (ce : Cell), res.1 = .inl (q, E) ∧ B.U.heap[q]? = some ce ∧ ce.vm = .none ∧ A.U.vm.findClass E = some ce.cls ∧ EndM D dA hc res A B
theorem mc_back {y : MethodName} {bytes : ByteArray} {maxL fr lo len : Nat} {ret : Option FieldType} {hc9 : List (Nat × Nat × Nat × Nat)} {As : List Value} {hc : HH} {res : Res} {sargs : Array Value}
    (hM : MC D dA l y bytes maxL ret hc9 fr lo As hc res) (hframes : fr + 1 ≤ R.frames) (hlocals : 8 + (maxL + 11) + lo ≤ R.locals)
    (hws : ∀ w ∈ wsC y bytes maxL ret hc9, ∀ a' U, s.WarmedH U.vm → w.before a' U = true) (hinit : ∀ a' U, s.WarmedH U.vm → (Cond.initialized y.cls).before a' U = true) :
    vx_Back l R p e below s sargs y len 8 (PreM D dA R hc As) (PostM D dA hc res) (PostMX D dA hc res) := by
  intro m meth c A g ig mk a X hg hsize hdg hW hn hp
  have h1 : (headSpec (wsC y bytes maxL ret hc9) (rmC hc fr lo)).pre.before a A.U = true := atoms_intro fun w hw => hws w hw _ _ X.warmed
  have h2 : (codeW y bytes maxL ret hc9).before a A.U = true := hws _ List.mem_cons_self _ _ X.warmed
  have h3 : (Cond.initialized y.cls).before a A.U = true := hinit _ _ X.warmed
  obtain ⟨h4, h5, rfl, p1, p2, p3⟩ := hp
  have hPc : (As.toArray = As.toArray ∧ HD D dA hc (A.U.calling g mk As.toArray).heap ∧ KD D dA hc (A.U.calling g mk As.toArray) ∧ ST hc (A.U.calling g mk As.toArray) (A.U.calling g mk As.toArray).heap) := ⟨rfl, p1, KD.same (s := A.U) (U := A.U.calling g mk As.toArray) rfl p2, ST.moved (u := A.U) (U := A.U.calling g mk As.toArray) (Vm.Alike.refl _) p3⟩
  obtain ⟨U, Ls, c0, s0⟩ := A
  dsimp only [Pt.U, Pt.locs, Pt.cells, Pt.slots] at h1 h2 h3 h4 h5 X hn hPc ⊢
  obtain ⟨mk9, methY, cY, hn9, hmY, hcY, -, hlY, -⟩ := codeW_spec h2
  cases hn9.symm.trans hn
  obtain ⟨kY, hkY, -⟩ := className_of_methodNamed hn
  have hinitY : kY.init = .initialized := Cond.initialized_spec (findClass_of_methodNamed hn) hkY h3
  have h : At U g.method c below := by rw [hg]; exact X.here
  have hlocals9 : 8 + (maxL + 11) + (headSpec (wsC y bytes maxL ret hc9) (rmC hc fr lo)).room.locals ≤ R.locals := hlocals
  have happ : (headSpec (wsC y bytes maxL ret hc9) (rmC hc fr lo)).appliesLoose y e.platform (U.calling g mk As.toArray) = true :=
    Spec.appliesLoose_calling (g := g) h hdg hn hkY hinitY
      (X.room_calling (g := g) (R' := (headSpec (wsC y bytes maxL ret hc9) (rmC hc fr lo)).room) hsize hmY hcY hframes (by rw [hlY]; omega) h4 h5) h1
  obtain ⟨mid, hmid⟩ := h.above
  have hfr : (U.setTop g).frames = (.java g :: mid) ++ below := by rw [State.frames_setTop' g h.top, hmid]; rfl
  obtain ⟨o, s₂, hsteps, -, hend, hq⟩ := Steps.callFree hM p X.admits X.cas X.clock (acts := []) hfr happ hPc trivial
  have hq' : QQ D dA hc res (U.calling g mk As.toArray) o s₂ := hq
  rw [State.frames_setTop' g h.top] at hend
  obtain ⟨g₀, hg0⟩ := Option.isSome_iff_exists.mp h.top
  obtain ⟨r, hr⟩ := State.topJava?_eq_some.mp hg0
  have hr' : (({ U with heap := s₂.heap, slotsUsed := s₂.slotsUsed } : State).setVm s₂.vm).frames = .java g₀ :: r := hr
  obtain ⟨L, hW₂, hsm, hL, q1, q2, q3, q4, q5, q6⟩ := hq'
  obtain ⟨e2, z2, z3, z4, z5, z6⟩ := id hsm
  have e3 : s₂ = ({ (U.calling g mk As.toArray).setFrames s₂.frames with heap := s₂.heap, slotsUsed := s₂.slotsUsed } : State).setVm s₂.vm := by
    have : s₂ = ({ s₂ with vm := (U.calling g mk As.toArray).vm } : State).setVm s₂.vm := rfl
    rw [e2] at this
    exact this
  have hW' : U.WarmedH s₂.vm := hW₂
  have hsame : U.sameButNew ({ U with heap := s₂.heap, slotsUsed := s₂.slotsUsed } : State) L (hSz res.2 - hSz hc) (hSl res.2 - hSl hc) := by
    refine ⟨?_, z2, z3, z4, z5, z6⟩
    obtain ⟨t, ht, -⟩ := State.frames_cons hr
    show ({ U with heap := s₂.heap, slotsUsed := s₂.slotsUsed } : State) = { U.setFrames U.frames with heap := s₂.heap, slotsUsed := s₂.slotsUsed }
    rw [State.setFrames_self ht]
  obtain ⟨rr, hres⟩ := res
  cases rr with
  | inr v =>
    have q6 : o = .returned v := q6
    subst q6
    obtain ⟨c₂, i₂, len₂, hc₂, hd₂, hf₂⟩ := hend
    have hcc : c₂ = c := by
      have h1 : s₂.code? g.method = U.code? g.method := by
        rw [State.code?_eq, State.code?_eq, hW'.alike.method?]
      exact Option.some.inj (hc₂.symm.trans (h1.trans h.code))
    subst hcc
    have hlen : len₂ = len := by rw [hdg] at hd₂; cases hd₂; rfl
    subst hlen
    have hs₂ : s₂ = (({ U with heap := s₂.heap, slotsUsed := s₂.slotsUsed } : State).setVm s₂.vm).setTop { g with pc := g.pc + len₂, stack := v.toList ++ g.stack } := by
      refine e3.trans ?_
      rw [hf₂, State.calling_eq h.top, State.setFrames_setFrames, State.setTop_of_frames _ hr', hr]
      rfl
    subst hg
    refine Or.inl ⟨v, ⟨(({ U with heap := s₂.heap, slotsUsed := s₂.slotsUsed } : State).setVm s₂.vm), Ls ++ L, c0 + (hSz hres - hSz hc), s0 + (hSl hres - hSl hc)⟩,
      ⟨X.admits, X.cas, X.clock, X.frames, X.room, X.hears, X.method, X.code, (X.here.setHeapUsed s₂.heap s₂.slotsUsed).setVm hW'.alike, X.tail, State.WarmedH.trans X.warmed hW', X.limits, X.bytes, X.same.trans (hsame.setVm s.vm)⟩,
      ⟨rfl, L, q1, q2, q3, q4, q5.1, q5.2, rfl, hL, rfl, rfl⟩, ?_⟩
    show Steps p.tables e below _ ((({ U with heap := s₂.heap, slotsUsed := s₂.slotsUsed } : State).setVm s₂.vm).setTop { g with pc := g.pc + len₂, stack := v.toList ++ g.stack })
    rw [← hs₂]
    exact hsteps
  | inl qE =>
    obtain ⟨q, E⟩ := qE
    obtain ⟨rfl, ce, hce, hcv, hcl⟩ := q6
    have hf₂ : s₂.frames = .throwing q :: .java g :: U.frames.tail := hend
    have hs₂ : s₂ = ((({ U with heap := s₂.heap, slotsUsed := s₂.slotsUsed } : State).setVm s₂.vm).setTop g).pushFrame (.throwing q) := by
      refine e3.trans ?_
      rw [hf₂, State.calling_eq h.top, State.setFrames_setFrames, State.pushFrame, State.frames_setTop _ hr', State.setTop_of_frames _ hr', State.setFrames_setFrames, hr]
      rfl
    subst hg
    refine Or.inr ⟨q, ⟨(({ U with heap := s₂.heap, slotsUsed := s₂.slotsUsed } : State).setVm s₂.vm), Ls ++ L, c0 + (hSz hres - hSz hc), s0 + (hSl hres - hSl hc)⟩,
      ⟨X.admits, X.cas, X.clock, X.frames, X.room, X.hears, X.method, X.code, (X.here.setHeapUsed s₂.heap s₂.slotsUsed).setVm hW'.alike, X.tail, State.WarmedH.trans X.warmed hW', X.limits, X.bytes, X.same.trans (hsame.setVm s.vm)⟩,
      ⟨E, ce, rfl, hce, hcv, hcl, L, q1, q2, q3, q4, q5.1, q5.2, rfl, hL, rfl, rfl⟩, ?_⟩
    show Steps p.tables e below _ (((({ U with heap := s₂.heap, slotsUsed := s₂.slotsUsed } : State).setVm s₂.vm).setTop g).pushFrame (.throwing q))
    rw [← hs₂]
    exact hsteps
theorem ws_pay (X : FX p l s m args meth R c cc nL own D dA h0 hh) {y : MethodName} {bytes : ByteArray} {maxL : Nat} {ret : Option FieldType} {hc9 : List (Nat × Nat × Nat × Nat)} (hcode : codeW y bytes maxL ret hc9 ∈ lw_all) : ∀ w ∈ wsC y bytes maxL ret hc9, ∀ a' U, s.WarmedH U.vm → w.before a' U = true := by
  refine pay_in X.2.2.2.2.1 (fun w hw => ?_)
  rcases List.mem_cons.mp hw with e1 | e1
  · rw [e1]; exact lw_self _ hcode
  · exact lw_self _ e1
theorem init_pay (X : FX p l s m args meth R c cc nL own D dA h0 hh) {C : String} (hini : Cond.initialized C ∈ lw_all) : ∀ a' U, s.WarmedH U.vm → (Cond.initialized C).before a' U = true := fun a' U hW => word_at hW (Or.inl (by first | rfl | simp [Cond.onTables, Cond.keeps, Cond.steady])) (X.2.2.2.2.1 _ hini)
theorem pre_ok (X : FX p l s m args meth R c cc nL own D dA h0 hh) {As : List Value} {H : Heap} {locs : List Loc} {cells slots : Nat} (a1 : HD D dA h H) (a2 : h.1 = h0.1) (a3 : va_S (fA h0) s.heap H locs) (a4 : cells + hSz h0 = hSz h) (a5 : slots + hSl h0 = hSl h) {T : State} (hT : T.heap = H) : ∀ vm₁, s.WarmedH vm₁ → PreM D dA R h As ⟨T.setVm vm₁, locs, cells, slots⟩ As.toArray := by
  intro vm₁ hW
  have r1 := X.2.2.2.2.2.2.2.2.2.1
  have r2 := X.2.2.2.2.2.2.2.2.2.2.1
  have e1 := hLim_eq a2
  have e2 := hSlim_eq a2
  have z1 := a1.2.2.2.1
  have z2 := a1.2.2.2.2
  refine ⟨by show cells + (hLim h - hSz h) ≤ R.cells; omega, by show slots + (hSlim h - hSl h) ≤ R.slots; omega, rfl, by show HD D dA h T.heap; rw [hT]; exact a1, ?_, ?_⟩
  · exact (X.2.2.2.2.2.1.consts a2).warm (U := T.setVm vm₁) hW
  · have h1 : ST h0 s H := X.2.2.2.2.2.2.1.kept a3.2.1
    have h2 : ST h s H := h1.consts a2
    show ST h (T.setVm vm₁) T.heap
    rw [hT]
    exact h2.moved (U := T.setVm vm₁) hW.alike
theorem end_ok (X : FX p l s m args meth R c cc nL own D dA h0 hh) {res : Res} {rest : List Value} {H : Heap} {locs : List Loc} {cells slots : Nat} {ls : Array Slot} (a2 : h.1 = h0.1) (a3 : va_S (fA h0) s.heap H locs) (a4 : cells + hSz h0 = hSz h) (a5 : slots + hSl h0 = hSl h) (a6 : lvr ls nL L) {T : State} (hT : T.heap = H) {vm₁ : Vm} {B : Pt} (hE : EndM D dA h res ⟨T.setVm vm₁, locs, cells, slots⟩ B) :
    HD D dA res.2 B.U.heap ∧ res.2.1 = h0.1 ∧ va_S (fA h0) s.heap B.U.heap B.locs ∧ B.cells + hSz h0 = hSz res.2 ∧ B.slots + hSl h0 = hSl res.2 := by
  obtain ⟨L, q1, q2, q3, q4, q5, q6, q7, q8, q9, q10⟩ := hE
  have eA : fA h = fA h0 := by unfold fA hB; rw [a2]
  rw [eA] at q6 q8
  have q5' : H.size ≤ B.U.heap.size := by rw [← hT]; exact q5
  have q6' : ∀ q : Nat, q < H.size → ¬ fA h0 q → B.U.heap[q]? = H[q]? := by rw [← hT]; exact q6
  refine ⟨q1, q2.trans a2, ⟨Nat.le_trans a3.1 q5', fun q h1 h2 => (q6' q (Nat.lt_of_lt_of_le h1 a3.1) h2).trans (a3.2.1 q h1 h2), fun z hz => ?_⟩, ?_, ?_⟩
  · rw [q7] at hz
    rcases List.mem_append.mp hz with k | k
    · exact a3.2.2 z k
    · exact q8 z k
  · rw [q9]
    show cells + (hSz res.2 - hSz h) + hSz h0 = hSz res.2
    omega
  · rw [q10]
    show slots + (hSl res.2 - hSl h) + hSl h0 = hSl res.2
    omega
theorem ac_use {res : Res} {rest : List Value} (kk : AfterC p l e R s m args below meth c Q D dA h0 nL pc L rest res) {ls : Array Slot} (a6 : lvr ls nL L) {B : Pt} (k : HD D dA res.2 B.U.heap ∧ res.2.1 = h0.1 ∧ va_S (fA h0) s.heap B.U.heap B.locs ∧ B.cells + hSz h0 = hSz res.2 ∧ B.slots + hSl h0 = hSl res.2) {v : Option Value} (hv : res.1 = .inr v) (XB : Stand p l e R s m args below meth c B.U B.locs B.cells B.slots) : ∃ t, Steps p.tables e below (B.U.setTop (F0 m (pc + 3) ls (v.toList ++ rest))) t ∧ Q t := by
  unfold AfterC at kk
  rw [hv] at kk
  exact kk B.U.heap B.locs B.cells B.slots ls k.1 k.2.1 k.2.2.1 k.2.2.2.1 k.2.2.2.2 a6 B.U rfl XB
theorem ac_useX {res : Res} {rest : List Value} (kk : AfterC p l e R s m args below meth c Q D dA h0 nL pc L rest res) {ls : Array Slot} (a6 : lvr ls nL L) {B : Pt} (k : HD D dA res.2 B.U.heap ∧ res.2.1 = h0.1 ∧ va_S (fA h0) s.heap B.U.heap B.locs ∧ B.cells + hSz h0 = hSz res.2 ∧ B.slots + hSl h0 = hSl res.2) {q : Nat} {E : String} {ce : Cell} (hv : res.1 = .inl (q, E)) (h1 : B.U.heap[q]? = some ce) (h2 : ce.vm = .none) (h3 : s.vm.findClass E = some ce.cls) (rest' : List Value) (XB : Stand p l e R s m args below meth c B.U B.locs B.cells B.slots) : ∃ t, Steps p.tables e below ((B.U.setTop (F0 m pc ls rest')).pushFrame (.throwing q)) t ∧ Q t := by
  unfold AfterC at kk
  rw [hv] at kk
  exact kk B.U.heap B.locs B.cells B.slots ls rest' ce k.1 k.2.1 k.2.2.1 k.2.2.2.1 k.2.2.2.2 a6 h1 h2 h3 B.U rfl XB
abbrev okName (y : MethodName) (n : Nat) : Prop := y.cls ≠ "java/lang/invoke/MethodHandle" ∧ y.cls ≠ "java/lang/invoke/VarHandle" ∧ (parseMethodDescriptor y.desc).map (fun d => d.parameters.length) = some n
theorem okName.len {y : MethodName} {n : Nat} (h : okName y n) : ∀ sig, parseMethodDescriptor y.desc = some sig → n = sig.parameters.length := fun sig hs => by
  have h2 := h.2.2
  rw [hs] at h2
  exact (Option.some.inj h2).symm
theorem room8 {rest : List Value} {ls : Array Slot} {st : List Value} (hw8 : (rest.map fun v => v.category).sum ≤ 8) : 2 * (F0 m pc ls st).monitorRoom + (rest.map fun v => v.category).sum ≤ 8 := lv_room hw8
theorem g_callS (X : FX p l s m args meth R c cc nL own D dA h0 hh) {y : MethodName} {bytes : ByteArray} {maxL fr lo index : Nat} {ret : Option FieldType} {hc9 : List (Nat × Nat × Nat × Nat)} {As rest : List Value} {res : Res} (hM : MC D dA l y bytes maxL ret hc9 fr lo As h res) (hlink : Cond.methodLink own index y ∈ lw_all) (hstat : Cond.static y ∈ lw_all) (hini : Cond.initialized y.cls ∈ lw_all) (hcode : codeW y bytes maxL ret hc9 ∈ lw_all) (hd : okName y As.length) (hR : fr + 1 ≤ R.frames ∧ 8 + (maxL + 11) + lo ≤ R.locals) (hst : st = As.reverse ++ rest) (hw8 : (rest.map fun v => v.category).sum ≤ 8) (d : decode cc pc = .ok (.invokestatic index, 3)) (kk : AfterC p l e R s m args below meth c Q D dA h0 nL pc L rest res) : G p l e R s m args below meth c Q D dA h0 nL h pc L st := by
  intro H locs cells slots ls a1 a2 a3 a4 a5 a6 T hT XS
  have hts := X.2.2.2.2.1
  have hK := mc_back (p := p) (e := e) (below := below) (s := s) (sargs := args) (len := 3) hM hR.1 hR.2 (ws_pay X hcode) (init_pay X hini)
  obtain ⟨mk, methM, cM, hnamed, hmethM, -, -, -, -, -, -, hsigM⟩ := codeW_spec (hts _ hcode)
  have hstatic : methM.isStatic = true := Cond.static_spec hnamed hmethM (hts _ hstat)
  obtain ⟨kP, hkP, -⟩ := className_of_methodNamed hnamed
  have hinitP : kP.init = .initialized := Cond.initialized_spec (findClass_of_methodNamed hnamed) hkP (hts _ hini)
  obtain ⟨vm₁, X₁, hstep₁⟩ := XS.invokestatic X.1 X.2.2.2.1 (hts _ hlink) hnamed hmethM hstatic hkP hinitP ⟨hd.1, hd.2.1⟩ (g := F0 m pc ls st) rfl (argsL := As) (rest := rest) (hd.len _ hsigM) hst (by rw [X.2.1]; exact d)
  rcases hK m meth c ⟨T.setVm vm₁, locs, cells, slots⟩ { (F0 m pc ls st) with stack := rest } (.invokestatic index) mk As.toArray X₁ rfl (a6.1.trans X.2.2.1.symm) (by rw [X.2.1]; exact d) (room8 hw8) (X₁.named hnamed) (pre_ok X a1 a2 a3 a4 a5 hT vm₁ X₁.warmed) with ⟨v, B, X', ⟨hv, hE⟩, hsteps⟩ | ⟨q, B, X', ⟨E, ce, hv, h1, h2, h3, hE⟩, hsteps⟩
  · obtain ⟨t, b1, b2⟩ := ac_use kk a6 (end_ok X (rest := rest) a2 a3 a4 a5 a6 hT hE) hv X'
    exact ⟨t, hstep₁ _ fun acts => by rw [doInvoke_state]; exact hsteps.trans b1, b2⟩
  · obtain ⟨t, b1, b2⟩ := ac_useX kk a6 (end_ok X (rest := rest) a2 a3 a4 a5 a6 hT hE) hv h1 h2 (vx_cls X₁.warmed h3) rest X'
    exact ⟨t, hstep₁ _ fun acts => by rw [doInvoke_state]; exact hsteps.trans b1, b2⟩
theorem g_callSN (X : FX p l s m args meth R c cc nL own D dA h0 hh) {y : MethodName} {bytes : ByteArray} {maxL fr lo index : Nat} {host : String} {ret : Option FieldType} {hc9 : List (Nat × Nat × Nat × Nat)} {As rest : List Value} {res : Res} (hM : MC D dA l y bytes maxL ret hc9 fr lo As h res) (hlink : Cond.methodLinkNest own index y host ∈ nwl) (hstat : Cond.static y ∈ lw_all) (hini : Cond.initialized y.cls ∈ lw_all) (hcode : codeW y bytes maxL ret hc9 ∈ lw_all) (hd : okName y As.length) (hR : fr + 1 ≤ R.frames ∧ 8 + (maxL + 11) + lo ≤ R.locals) (hst : st = As.reverse ++ rest) (hw8 : (rest.map fun v => v.category).sum ≤ 8) (d : decode cc pc = .ok (.invokestatic index, 3)) (kk : AfterC p l e R s m args below meth c Q D dA h0 nL pc L rest res) : G p l e R s m args below meth c Q D dA h0 nL h pc L st := by
  intro H locs cells slots ls a1 a2 a3 a4 a5 a6 T hT XS
  have hts := X.2.2.2.2.1
  have hK := mc_back (p := p) (e := e) (below := below) (s := s) (sargs := args) (len := 3) hM hR.1 hR.2 (ws_pay X hcode) (init_pay X hini)
  obtain ⟨mk, methM, cM, hnamed, hmethM, -, -, -, -, -, -, hsigM⟩ := codeW_spec (hts _ hcode)
  have hstatic : methM.isStatic = true := Cond.static_spec hnamed hmethM (hts _ hstat)
  obtain ⟨kP, hkP, -⟩ := className_of_methodNamed hnamed
  have hinitP : kP.init = .initialized := Cond.initialized_spec (findClass_of_methodNamed hnamed) hkP (hts _ hini)
  obtain ⟨vm₁, X₁, hstep₁⟩ := XS.invokestaticNest X.1 X.2.2.2.1 (va_Nw.use rfl (X.2.2.2.2.2.1.2.2.1 _ hlink)) hnamed hmethM hstatic hkP hinitP ⟨hd.1, hd.2.1⟩ (g := F0 m pc ls st) rfl (argsL := As) (rest := rest) (hd.len _ hsigM) hst (by rw [X.2.1]; exact d)
  rcases hK m meth c ⟨T.setVm vm₁, locs, cells, slots⟩ { (F0 m pc ls st) with stack := rest } (.invokestatic index) mk As.toArray X₁ rfl (a6.1.trans X.2.2.1.symm) (by rw [X.2.1]; exact d) (room8 hw8) (X₁.named hnamed) (pre_ok X a1 a2 a3 a4 a5 hT vm₁ X₁.warmed) with ⟨v, B, X', ⟨hv, hE⟩, hsteps⟩ | ⟨q, B, X', ⟨E, ce, hv, h1, h2, h3, hE⟩, hsteps⟩
  · obtain ⟨t, b1, b2⟩ := ac_use kk a6 (end_ok X (rest := rest) a2 a3 a4 a5 a6 hT hE) hv X'
    exact ⟨t, hstep₁ _ fun acts => by rw [doInvoke_state]; exact hsteps.trans b1, b2⟩
  · obtain ⟨t, b1, b2⟩ := ac_useX kk a6 (end_ok X (rest := rest) a2 a3 a4 a5 a6 hT hE) hv h1 h2 (vx_cls X₁.warmed h3) rest X'
    exact ⟨t, hstep₁ _ fun acts => by rw [doInvoke_state]; exact hsteps.trans b1, b2⟩
/-- the receiver of a call: an object of the kind ci -/
def isO (h : HH) (ci : Nat) (r : Option Nat) : Option Nat := match r with
  | none => none
  | some b => match hF h b with
    | some (.inr (c, _)) => if c = ci then some b else none
    | _ => none
theorem isO_some {ci b : Nat} {r : Option Nat} (hv : isO h ci r = some b) : r = some b ∧ ∃ fs, hF h b = some (.inr (ci, fs)) := by
  unfold isO at hv
  cases r with
  | none => cases hv
  | some a =>
    simp only at hv
    split at hv
    · rename_i c fs hc
      split at hv
      · rename_i e1
        subst e1
        cases hv
        exact ⟨rfl, fs, hc⟩
      · cases hv
    · cases hv
theorem recvC (X : FX p l s m args meth R c cc nL own D dA h0 hh) {ci b : Nat} {q : vw_C} {H : Heap} (hc : fcl[ci]? = some q) (hb : isO h ci (some b) = some b) (a1 : HD D dA h H) : ∃ cell : Cell, H[b]? = some cell ∧ (∀ z, cell.vm ≠ .statics z) ∧ s.vm.findClass q.1 = some cell.cls := by
  obtain ⟨-, fs, hF1⟩ := isO_some hb
  obtain ⟨r, h1, h2, cell, q1, q2, q3, q4, q5⟩ := (a1.1 b _ hF1).2
  cases h1.symm.trans hc
  exact ⟨cell, q1, q4, by rw [q2]; exact (X.2.2.2.2.2.1.1 ci _ h1).2.1⟩
theorem g_callV (X : FX p l s m args meth R c cc nL own D dA h0 hh) {y : MethodName} {bytes : ByteArray} {maxL fr lo index ci b : Nat} {q0 : vw_C} {r : Option Nat} {ret : Option FieldType} {hc9 : List (Nat × Nat × Nat × Nat)} {As rest : List Value} {res : Res} (hb : isO h ci r = some b) (hcl : fcl[ci]? = some q0) (hCy : q0.1 = y.cls) (hM : MC D dA l y bytes maxL ret hc9 fr lo (va_rf (some b) :: As) h res) (hlink : Cond.methodLink own index y ∈ lw_all) (hinst : Cond.instanceMethod y ∈ lw_all) (hsel : Cond.selects y.cls y y ∈ lw_all) (hini : Cond.initialized y.cls ∈ lw_all) (hcode : codeW y bytes maxL ret hc9 ∈ lw_all) (hd : okName y As.length) (hR : fr + 1 ≤ R.frames ∧ 8 + (maxL + 11) + lo ≤ R.locals) (hst : st = As.reverse ++ va_rf r :: rest) (hw8 : (rest.map fun v => v.category).sum ≤ 8) (d : decode cc pc = .ok (.invokevirtual index, 3)) (kk : AfterC p l e R s m args below meth c Q D dA h0 nL pc L rest res) : G p l e R s m args below meth c Q D dA h0 nL h pc L st := by
  obtain ⟨rfl, -⟩ := isO_some hb
  intro H locs cells slots ls a1 a2 a3 a4 a5 a6 T hT XS
  have hts := X.2.2.2.2.1
  have hK := mc_back (p := p) (e := e) (below := below) (s := s) (sargs := args) (len := 3) hM hR.1 hR.2 (ws_pay X hcode) (init_pay X hini)
  obtain ⟨mk, methM, hnamed, hmethM, hstM, habM⟩ := Cond.instanceMethod_spec (hts _ hinst)
  obtain ⟨mk9, methM', cM, hnamed', hmethM', -, -, -, -, -, -, hsigM⟩ := codeW_spec (hts _ hcode)
  cases hnamed.symm.trans hnamed'
  cases hmethM.symm.trans hmethM'
  obtain ⟨c2, r2, m2, q1, q2, q3, q4, kP, hkP, hkPi⟩ := Cond.selects_spec (hts _ hsel)
  obtain ⟨cellB, hcB, hoB, hclB⟩ := recvC X hcl hb a1
  rw [hCy] at hclB
  cases hclB.symm.trans q1
  cases (State.methodFound?_of_named hnamed ⟨hd.1, hd.2.1⟩).symm.trans q2
  cases hnamed.symm.trans q3
  have hselP : selectMethod e.platform s.vm cellB.cls mk = .method mk := by rw [Launch.admits_selectMethod XS.admits]; exact q4
  obtain ⟨vm₁, X₁, hstep₁⟩ := XS.invokevirtual X.1 X.2.2.2.1 (hts _ hlink) hnamed hmethM hstM hkP hkPi ⟨hd.1, hd.2.1⟩ (a := b) (cell := cellB) (by rw [hT]; exact hcB) hoB hselP hmethM habM hkP hkPi (g := F0 m pc ls st) rfl (argsL := As) (rest := rest) (hd.len _ hsigM) hst (by rw [X.2.1]; exact d)
  rcases hK m meth c ⟨T.setVm vm₁, locs, cells, slots⟩ { (F0 m pc ls st) with stack := rest } (.invokevirtual index) mk (Value.ref b :: As).toArray X₁ rfl (a6.1.trans X.2.2.1.symm) (by rw [X.2.1]; exact d) (room8 hw8) (X₁.named hnamed) (pre_ok (As := va_rf (some b) :: As) X a1 a2 a3 a4 a5 hT vm₁ X₁.warmed) with ⟨v, B, X', ⟨hv, hE⟩, hsteps⟩ | ⟨q, B, X', ⟨E, ce, hv, h1, h2, h3, hE⟩, hsteps⟩
  · obtain ⟨t, b1, b2⟩ := ac_use kk a6 (end_ok X (rest := rest) a2 a3 a4 a5 a6 hT hE) hv X'
    exact ⟨t, hstep₁ _ fun acts => by rw [doInvoke_state]; exact hsteps.trans b1, b2⟩
  · obtain ⟨t, b1, b2⟩ := ac_useX kk a6 (end_ok X (rest := rest) a2 a3 a4 a5 a6 hT hE) hv h1 h2 (vx_cls X₁.warmed h3) rest X'
    exact ⟨t, hstep₁ _ fun acts => by rw [doInvoke_state]; exact hsteps.trans b1, b2⟩
theorem g_callVN (X : FX p l s m args meth R c cc nL own D dA h0 hh) {y : MethodName} {bytes : ByteArray} {maxL fr lo index ci b : Nat} {host : String} {q0 : vw_C} {r : Option Nat} {ret : Option FieldType} {hc9 : List (Nat × Nat × Nat × Nat)} {As rest : List Value} {res : Res} (hb : isO h ci r = some b) (hcl : fcl[ci]? = some q0) (hCy : q0.1 = y.cls) (hM : MC D dA l y bytes maxL ret hc9 fr lo (va_rf (some b) :: As) h res) (hlink : Cond.methodLinkNest own index y host ∈ nwl) (hinst : Cond.instanceMethod y ∈ lw_all) (hsel : Cond.selects y.cls y y ∈ lw_all) (hini : Cond.initialized y.cls ∈ lw_all) (hcode : codeW y bytes maxL ret hc9 ∈ lw_all) (hd : okName y As.length) (hR : fr + 1 ≤ R.frames ∧ 8 + (maxL + 11) + lo ≤ R.locals) (hst : st = As.reverse ++ va_rf r :: rest) (hw8 : (rest.map fun v => v.category).sum ≤ 8) (d : decode cc pc = .ok (.invokevirtual index, 3)) (kk : AfterC p l e R s m args below meth c Q D dA h0 nL pc L rest res) : G p l e R s m args below meth c Q D dA h0 nL h pc L st := by
  obtain ⟨rfl, -⟩ := isO_some hb
  intro H locs cells slots ls a1 a2 a3 a4 a5 a6 T hT XS
  have hts := X.2.2.2.2.1
  have hK := mc_back (p := p) (e := e) (below := below) (s := s) (sargs := args) (len := 3) hM hR.1 hR.2 (ws_pay X hcode) (init_pay X hini)
  obtain ⟨mk, methM, hnamed, hmethM, hstM, habM⟩ := Cond.instanceMethod_spec (hts _ hinst)
  obtain ⟨mk9, methM', cM, hnamed', hmethM', -, -, -, -, -, -, hsigM⟩ := codeW_spec (hts _ hcode)
  cases hnamed.symm.trans hnamed'
  cases hmethM.symm.trans hmethM'
  obtain ⟨c2, r2, m2, q1, q2, q3, q4, kP, hkP, hkPi⟩ := Cond.selects_spec (hts _ hsel)
  obtain ⟨cellB, hcB, hoB, hclB⟩ := recvC X hcl hb a1
  rw [hCy] at hclB
  cases hclB.symm.trans q1
  cases (State.methodFound?_of_named hnamed ⟨hd.1, hd.2.1⟩).symm.trans q2
  cases hnamed.symm.trans q3
  have hselP : selectMethod e.platform s.vm cellB.cls mk = .method mk := by rw [Launch.admits_selectMethod XS.admits]; exact q4
  obtain ⟨vm₁, X₁, hstep₁⟩ := XS.invokevirtualNest X.1 X.2.2.2.1 (va_Nw.use rfl (X.2.2.2.2.2.1.2.2.1 _ hlink)) hnamed hmethM hstM hkP hkPi ⟨hd.1, hd.2.1⟩ (a := b) (cell := cellB) (by rw [hT]; exact hcB) hoB hselP hmethM habM hkP hkPi (g := F0 m pc ls st) rfl (argsL := As) (rest := rest) (hd.len _ hsigM) hst (by rw [X.2.1]; exact d)
  rcases hK m meth c ⟨T.setVm vm₁, locs, cells, slots⟩ { (F0 m pc ls st) with stack := rest } (.invokevirtual index) mk (Value.ref b :: As).toArray X₁ rfl (a6.1.trans X.2.2.1.symm) (by rw [X.2.1]; exact d) (room8 hw8) (X₁.named hnamed) (pre_ok (As := va_rf (some b) :: As) X a1 a2 a3 a4 a5 hT vm₁ X₁.warmed) with ⟨v, B, X', ⟨hv, hE⟩, hsteps⟩ | ⟨q, B, X', ⟨E, ce, hv, h1, h2, h3, hE⟩, hsteps⟩
  · obtain ⟨t, b1, b2⟩ := ac_use kk a6 (end_ok X (rest := rest) a2 a3 a4 a5 a6 hT hE) hv X'
    exact ⟨t, hstep₁ _ fun acts => by rw [doInvoke_state]; exact hsteps.trans b1, b2⟩
  · obtain ⟨t, b1, b2⟩ := ac_useX kk a6 (end_ok X (rest := rest) a2 a3 a4 a5 a6 hT hE) hv h1 h2 (vx_cls X₁.warmed h3) rest X'
    exact ⟨t, hstep₁ _ fun acts => by rw [doInvoke_state]; exact hsteps.trans b1, b2⟩
theorem g_callI (X : FX p l s m args meth R c cc nL own D dA h0 hh) {y : MethodName} {bytes : ByteArray} {maxL fr lo index b : Nat} {r : Option Nat} {As rest : List Value} {res : Res} (hb : r = some b) (hM : MC D dA l y bytes maxL none [] fr lo (va_rf (some b) :: As) h res) (hy1 : y.name = "<init>") (hlink : Cond.methodLink own index y ∈ lw_all) (hinst : Cond.instanceMethod y ∈ lw_all) (hini : Cond.initialized y.cls ∈ lw_all) (hcode : codeW y bytes maxL none [] ∈ lw_all) (hd : okName y As.length) (hR : fr + 1 ≤ R.frames ∧ 8 + (maxL + 11) + lo ≤ R.locals) (hst : st = As.reverse ++ va_rf r :: rest) (hw8 : (rest.map fun v => v.category).sum ≤ 8) (d : decode cc pc = .ok (.invokespecial index, 3)) (kk : AfterC p l e R s m args below meth c Q D dA h0 nL pc L rest res) : G p l e R s m args below meth c Q D dA h0 nL h pc L st := by
  subst hb
  intro H locs cells slots ls a1 a2 a3 a4 a5 a6 T hT XS
  have hts := X.2.2.2.2.1
  have hK := mc_back (p := p) (e := e) (below := below) (s := s) (sargs := args) (len := 3) hM hR.1 hR.2 (ws_pay X hcode) (init_pay X hini)
  have hpl : e.platform.magicAccessors = ({} : Platform).magicAccessors := by rw [XS.admits.platform]
  obtain ⟨mk9, methM', cM', hnamed', hmethM', -, -, -, -, -, -, hsigM⟩ := codeW_spec (hts _ hcode)
  obtain ⟨mk, methM, cM, kP, vm₁, hnamed, hmethM, hcodeM, -, hlocalsM, -, hkP, -, hW₁, hstep₁⟩ := Steps.initColdArgs (e := e) XS.here X.1 XS.warmed hpl X.2.2.2.1 hy1 ⟨hd.1, hd.2.1⟩ (hts _ hlink) (hts _ hinst) (hts _ hcode) (f := F0 m pc ls st) rfl hd.len hst (by rw [X.2.1]; exact d)
  have X₁ := XS.noted hW₁
  rcases hK m meth c ⟨T.setVm vm₁, locs, cells, slots⟩ { (F0 m pc ls st) with stack := rest } (.invokespecial index) mk (Value.ref b :: As).toArray X₁ rfl (a6.1.trans X.2.2.1.symm) (by rw [X.2.1]; exact d) (room8 hw8) (X₁.named hnamed) (pre_ok (As := va_rf (some b) :: As) X a1 a2 a3 a4 a5 hT vm₁ X₁.warmed) with ⟨v, B, X', ⟨hv, hE⟩, hsteps⟩ | ⟨q, B, X', ⟨E, ce, hv, h1, h2, h3, hE⟩, hsteps⟩
  · obtain ⟨t, b1, b2⟩ := ac_use kk a6 (end_ok X (rest := rest) a2 a3 a4 a5 a6 hT hE) hv X'
    exact ⟨t, hstep₁ _ fun acts => by rw [doInvoke_state]; exact hsteps.trans b1, b2⟩
  · obtain ⟨t, b1, b2⟩ := ac_useX kk a6 (end_ok X (rest := rest) a2 a3 a4 a5 a6 hT hE) hv h1 h2 (vx_cls X₁.warmed h3) rest X'
    exact ⟨t, hstep₁ _ fun acts => by rw [doInvoke_state]; exact hsteps.trans b1, b2⟩
theorem g_objInit (X : FX p l s m args meth R c cc nL own D dA h0 hh) {index : Nat} {r : Option Nat} (b : Nat) (hb : r = some b) (hlink : Cond.methodLink own index objectInit ∈ lw_all) (hinst : Cond.instanceMethod objectInit ∈ lw_all) (hcode : Cond.code objectInit ⟨#[0xb1]⟩ 1 none ∈ lw_all) (hR : 1 ≤ R.frames ∧ 20 ≤ R.locals) (hw8 : (st.map fun v => v.category).sum ≤ 8) (d : decode cc pc = .ok (.invokespecial index, 3)) (kk : G p l e R s m args below meth c Q D dA h0 nL h (pc + 3) L st) : G p l e R s m args below meth c Q D dA h0 nL h pc L (va_rf r :: st) := by
  subst hb
  intro H locs cells slots ls a1 a2 a3 a4 a5 a6
  have h8 := room8 (m := m) (pc := pc) (ls := ls) (st := va_rf (some b) :: st) hw8
  exact W.objInit X.1 X.2.1 X.2.2.2.1 (X.2.2.2.2.1 _ hlink) (X.2.2.2.2.1 _ hinst) (X.2.2.2.2.1 _ hcode) (g := F0 m pc ls (va_rf (some b) :: st)) rfl (a6.1.trans X.2.2.1.symm) rfl d hR.1 (by omega) (kk H locs cells slots ls a1 a2 a3 a4 a5 a6)
end GQ
