/-! Refused: made, thrown -/
def MCE (EE : State → Prop) (D : va_G) (dA : Nat → ClassId) (l : Launch) (y : MethodName) (b : ByteArray) (n : Nat) (r : Option FieldType) (hh : List (Nat × Nat × Nat × Nat)) (fr lo : Nat) (As : List Value) (h : HH) (res : Res) : Prop :=
  MetFree l y (headSpec (wsC y b n r hh) (rmC h fr lo)) (fun a U => a = As.toArray ∧ HD D dA h U.heap ∧ KD D dA h U ∧ ST h U U.heap ∧ EE U) (fun _ _ _ _ _ => True) (fun _ st o t => QQ D dA h res st o t)
def PreME (EE : State → Prop) (D : va_G) (dA : Nat → ClassId) (R : Room) (hc : HH) (As : List Value) : Pt → Array Value → Prop := fun A a => PreM D dA R hc As A a ∧ EE A.U
theorem mc_ofE {EE : State → Prop} {l : Launch} {D : va_G} {dA : Nat → ClassId} {y : MethodName} {cc : ByteArray} {maxL fr lo : Nat} {ret : Option FieldType} {hh : List (Nat × Nat × Nat × Nat)} {As : List Value} {h : HH} {res : Res} (hl : l.stackTraces = false) (hy : plainFor y = true) (hent : (lg_sl As).length ≤ maxL)
    (body : ∀ (p : Program) (e : Env) (s : State) (m : MethodId) (args : Array Value) (below : List Frame) (meth : Method) (c : Code) (R : Room), R.frames = fr → R.locals = lo → FX p l s m args meth R c cc maxL y.cls D dA h hh → meth.sig.returnType = ret → meth.name = y.name → EE s → HD D dA h s.heap → ∀ ls : Array Slot, lvr ls maxL (argL As) → W p l e R s m args below meth c s.heap [] 0 0 (RQ D dA h res below s) (F0 m 0 ls [])) : MCE EE D dA l y cc maxL ret hh fr lo As h res := by
  refine MetFree.of_bodySF (code := cc) (maxLocals := maxL) (ret := ret) hy ?_ ?_
  · intro args s m hw hn
    obtain ⟨m9, meth, c, hn9, h1, h2, h3, h4, -, h5, h6, -⟩ := codeW_spec (atoms_spec (ws := wsC y cc maxL ret hh) hw _ List.mem_cons_self)
    cases hn.symm.trans hn9
    exact ⟨meth, c, h1, h2, h3, h4, h5, h6⟩
  · intro p e s m args below meth c s₁ B hml hP _
    obtain ⟨rfl, hHD, hKD, hST, hEE⟩ := hP
    have hh0 : s₁.heap = s.heap := by rw [B.state]; rfl
    have hts := atoms_spec (ws := wsC y cc maxL ret hh) B.pre
    have htab : c.exceptionTable.toList = tableOf hh := by
      obtain ⟨m9, meth9, c9, hn9, h1, h2, -, -, h6, -⟩ := codeW_spec (hts _ List.mem_cons_self)
      cases Option.some.inj (hn9.symm.trans B.named)
      cases Option.some.inj (h1.symm.trans B.method)
      cases Option.some.inj (h2.symm.trans (Stand.of_body B).code)
      exact h6
    have hz := hHD.2
    have X : FX p l s m As.toArray meth (headSpec (wsC y cc maxL ret hh) (rmC h fr lo)).room c cc maxL y.cls D dA h hh := by
      refine ⟨B.exec, B.bytes, hml, findClass_of_methodNamed B.named, fun w hw => hts w (List.mem_cons_of_mem _ hw), hKD, hST, B.notSynchronized, hz.1, ?_, ?_, hl, hz.2.1, htab⟩
      · show hLim h - hSz h + hSz h = hLim h
        omega
      · show hSlim h - hSl h + hSl h = hSlim h
        omega
    have hlv := lv_entry As (n := maxL) hent
    have w := body p e s m As.toArray below meth c _ rfl rfl X B.returns (name_of_methodNamed B.named B.method).1 hEE hHD _ (show lvr _ maxL (argL As) from ⟨hlv.1, hlv.2.1, fun q hq => by
      obtain ⟨i, v⟩ := q
      have := argL_mem As 0 i v (mem_PL.mp hq)
      rw [Nat.zero_add] at this
      exact hlv.2.2 _ this⟩)
    obtain ⟨t, a1, o, b1, b2, b3⟩ := w s₁ hh0 (Stand.of_body B)
    rw [lg_entry_eq]
    exact ⟨t, o, a1, b1, b2, b3⟩
section GE1
variable {p : Program} {l : Launch} {e : Env} {R : Room} {s : State} {m : MethodId} {args : Array Value} {below : List Frame} {meth : Method} {c : Code} {Q : State → Prop} {D : va_G} {dA : Nat → ClassId} {h0 : HH} {nL : Nat} {h : HH} {pc : Nat} {L : List (Option Value)} {st : List Value} {cc : ByteArray} {own : String} {hh : List (Nat × Nat × Nat × Nat)}
theorem mc_backE {EE : State → Prop} (hEE : ∀ (U : State) (g : JFrame) (mk : MethodId) (a9 : Array Value), EE U → EE (U.calling g mk a9)) {y : MethodName} {bytes : ByteArray} {maxL fr lo len : Nat} {ret : Option FieldType} {hc9 : List (Nat × Nat × Nat × Nat)} {As : List Value} {hc : HH} {res : Res} {sargs : Array Value}
    (hM : MCE EE D dA l y bytes maxL ret hc9 fr lo As hc res) (hframes : fr + 1 ≤ R.frames) (hlocals : 8 + (maxL + 11) + lo ≤ R.locals)
    (hws : ∀ w ∈ wsC y bytes maxL ret hc9, ∀ a' U, s.WarmedH U.vm → w.before a' U = true) (hinit : ∀ a' U, s.WarmedH U.vm → (Cond.initialized y.cls).before a' U = true) :
    vx_Back l R p e below s sargs y len 8 (PreME EE D dA R hc As) (PostM D dA hc res) (PostMX D dA hc res) := by
  intro m meth c A g ig mk a X hg hsize hdg hW hn hp
  have h1 : (headSpec (wsC y bytes maxL ret hc9) (rmC hc fr lo)).pre.before a A.U = true := atoms_intro fun w hw => hws w hw _ _ X.warmed
  have h2 : (codeW y bytes maxL ret hc9).before a A.U = true := hws _ List.mem_cons_self _ _ X.warmed
  have h3 : (Cond.initialized y.cls).before a A.U = true := hinit _ _ X.warmed
  obtain ⟨⟨h4, h5, rfl, p1, p2, p3⟩, p4⟩ := hp
  have hPc : (As.toArray = As.toArray ∧ HD D dA hc (A.U.calling g mk As.toArray).heap ∧ KD D dA hc (A.U.calling g mk As.toArray) ∧ ST hc (A.U.calling g mk As.toArray) (A.U.calling g mk As.toArray).heap ∧ EE (A.U.calling g mk As.toArray)) := ⟨rfl, p1, KD.same (s := A.U) (U := A.U.calling g mk As.toArray) rfl p2, ST.moved (u := A.U) (U := A.U.calling g mk As.toArray) (Vm.Alike.refl _) p3, hEE _ _ _ _ p4⟩
  obtain ⟨U, Ls, c0, s0⟩ := A
  dsimp only [Pt.U, Pt.locs, Pt.cells, Pt.slots] at h1 h2 h3 h4 h5 X hn hPc ⊢
  obtain ⟨mk9, methY, cY, hn9, hmY, hcY, -, hlY, -⟩ := codeW_spec h2
  cases hn9.symm.trans hn
  obtain ⟨kY, hkY, -⟩ := className_of_methodNamed hn
  have hinitY : kY.init = .initialized := Cond.initialized_spec (findClass_of_methodNamed hn) hkY h3
  have h : At U g.method c below := by rw [hg]; exact X.here
  have hlocals9 : 8 + (maxL + 11) + (headSpec (wsC y bytes maxL ret hc9) (rmC hc fr lo)).room.locals ≤ R.locals := hlocals
  have happ : (headSpec (wsC y bytes maxL ret hc9) (rmC hc fr lo)).appliesLoose y e.platform (U.calling g mk As.toArray) = true :=
    Spec.appliesLoose_calling (g := g) h hdg hn hkY hinitY
      (X.room_calling (g := g) (R' := (headSpec (wsC y bytes maxL ret hc9) (rmC hc fr lo)).room) hsize hmY hcY hframes (by rw [hlY]; omega) h4 h5) h1
  obtain ⟨mid, hmid⟩ := h.above
  have hfr : (U.setTop g).frames = (.java g :: mid) ++ below := by rw [State.frames_setTop' g h.top, hmid]; rfl
  obtain ⟨o, s₂, hsteps, -, hend, hq⟩ := Steps.callFree hM p X.admits X.cas X.clock (acts := []) hfr happ hPc trivial
  have hq' : QQ D dA hc res (U.calling g mk As.toArray) o s₂ := hq
  rw [State.frames_setTop' g h.top] at hend
  obtain ⟨g₀, hg0⟩ := Option.isSome_iff_exists.mp h.top
  obtain ⟨r, hr⟩ := State.topJava?_eq_some.mp hg0
  have hr' : (({ U with heap := s₂.heap, slotsUsed := s₂.slotsUsed } : State).setVm s₂.vm).frames = .java g₀ :: r := hr
  obtain ⟨L, hW₂, hsm, hL, q1, q2, q3, q4, q5, q6⟩ := hq'
  obtain ⟨e2, z2, z3, z4, z5, z6⟩ := id hsm
  have e3 : s₂ = ({ (U.calling g mk As.toArray).setFrames s₂.frames with heap := s₂.heap, slotsUsed := s₂.slotsUsed } : State).setVm s₂.vm := by
    have : s₂ = ({ s₂ with vm := (U.calling g mk As.toArray).vm } : State).setVm s₂.vm := rfl
    rw [e2] at this
    exact this
  have hW' : U.WarmedH s₂.vm := hW₂
  have hsame : U.sameButNew ({ U with heap := s₂.heap, slotsUsed := s₂.slotsUsed } : State) L (hSz res.2 - hSz hc) (hSl res.2 - hSl hc) := by
    refine ⟨?_, z2, z3, z4, z5, z6⟩
    obtain ⟨t, ht, -⟩ := State.frames_cons hr
    show ({ U with heap := s₂.heap, slotsUsed := s₂.slotsUsed } : State) = { U.setFrames U.frames with heap := s₂.heap, slotsUsed := s₂.slotsUsed }
    rw [State.setFrames_self ht]
  obtain ⟨rr, hres⟩ := res
  cases rr with
  | inr v =>
    have q6 : o = .returned v := q6
    subst q6
    obtain ⟨c₂, i₂, len₂, hc₂, hd₂, hf₂⟩ := hend
    have hcc : c₂ = c := by
      have h1 : s₂.code? g.method = U.code? g.method := by
        rw [State.code?_eq, State.code?_eq, hW'.alike.method?]
      exact Option.some.inj (hc₂.symm.trans (h1.trans h.code))
    subst hcc
    have hlen : len₂ = len := by rw [hdg] at hd₂; cases hd₂; rfl
    subst hlen
    have hs₂ : s₂ = (({ U with heap := s₂.heap, slotsUsed := s₂.slotsUsed } : State).setVm s₂.vm).setTop { g with pc := g.pc + len₂, stack := v.toList ++ g.stack } := by
      refine e3.trans ?_
      rw [hf₂, State.calling_eq h.top, State.setFrames_setFrames, State.setTop_of_frames _ hr', hr]
      rfl
    subst hg
    refine Or.inl ⟨v, ⟨(({ U with heap := s₂.heap, slotsUsed := s₂.slotsUsed } : State).setVm s₂.vm), Ls ++ L, c0 + (hSz hres - hSz hc), s0 + (hSl hres - hSl hc)⟩,
      ⟨X.admits, X.cas, X.clock, X.frames, X.room, X.hears, X.method, X.code, (X.here.setHeapUsed s₂.heap s₂.slotsUsed).setVm hW'.alike, X.tail, State.WarmedH.trans X.warmed hW', X.limits, X.bytes, X.same.trans (hsame.setVm s.vm)⟩,
      ⟨rfl, L, q1, q2, q3, q4, q5.1, q5.2, rfl, hL, rfl, rfl⟩, ?_⟩
    show Steps p.tables e below _ ((({ U with heap := s₂.heap, slotsUsed := s₂.slotsUsed } : State).setVm s₂.vm).setTop { g with pc := g.pc + len₂, stack := v.toList ++ g.stack })
    rw [← hs₂]
    exact hsteps
  | inl qE =>
    obtain ⟨q, E⟩ := qE
    obtain ⟨rfl, ce, hce, hcv, hcl⟩ := q6
    have hf₂ : s₂.frames = .throwing q :: .java g :: U.frames.tail := hend
    have hs₂ : s₂ = ((({ U with heap := s₂.heap, slotsUsed := s₂.slotsUsed } : State).setVm s₂.vm).setTop g).pushFrame (.throwing q) := by
      refine e3.trans ?_
      rw [hf₂, State.calling_eq h.top, State.setFrames_setFrames, State.pushFrame, State.frames_setTop _ hr', State.setTop_of_frames _ hr', State.setFrames_setFrames, hr]
      rfl
    subst hg
    refine Or.inr ⟨q, ⟨(({ U with heap := s₂.heap, slotsUsed := s₂.slotsUsed } : State).setVm s₂.vm), Ls ++ L, c0 + (hSz hres - hSz hc), s0 + (hSl hres - hSl hc)⟩,
      ⟨X.admits, X.cas, X.clock, X.frames, X.room, X.hears, X.method, X.code, (X.here.setHeapUsed s₂.heap s₂.slotsUsed).setVm hW'.alike, X.tail, State.WarmedH.trans X.warmed hW', X.limits, X.bytes, X.same.trans (hsame.setVm s.vm)⟩,
      ⟨E, ce, rfl, hce, hcv, hcl, L, q1, q2, q3, q4, q5.1, q5.2, rfl, hL, rfl, rfl⟩, ?_⟩
    show Steps p.tables e below _ (((({ U with heap := s₂.heap, slotsUsed := s₂.slotsUsed } : State).setVm s₂.vm).setTop g).pushFrame (.throwing q))
    rw [← hs₂]
    exact hsteps
end GE1
/-- the cell at a is a fresh Refused -/
def E7 (D : va_G) (a : Nat) (U : State) : Prop := ∃ kX : Class, U.heap[a]? = some (freshCell (D.1 7) kX) ∧ U.vm.classes[D.1 7]? = some kX
theorem rf_words : ∀ w ∈ gAt "FerryClocks$Refused" 3 "FerryClocks$Refused" 7 "java/lang/Exception" 7 Bundle.six [], w ∈ lw_all ∨ w ∈ nwl := ex_in _ [111, 442, 451, 456, 459, 461, 443, 444, 132, 133, 445, 450, 457, 477, 432, 478, 434, 479, 436, 446, 448, 438, 470, 471, 476, 438, 467, 468, 469, 470, 428, 466, 423, 429, 430, 431, 433, 435, 437, 441, 440, 439] (by decide +kernel) (by decide +kernel)
def F_X6_init (a2 : Int32) (h0 : HH) : Option HH := if hSz h0 + 1 ≤ hLim h0 ∧ hSl h0 + 7 ≤ hSlim h0 then some (hpush h0 (.inr (7, [.int a2])) 7) else none
set_option maxHeartbeats 4000000 in
theorem w_X6_init (l : Launch) (hl : l.stackTraces = false) (D : va_G) (dA : Nat → ClassId) (h0 : HH) (a2 : Int32) (hb7 : hB h0 ≤ hSz h0) : MCE (E7 D (hSz h0)) D dA l yX6_init cX6_init 2 none [] 6 200 [va_rf (some (hSz h0)), .int a2] (hskip h0 7) (.inr none, hpush h0 (.inr (7, [.int a2])) 7) := by
  refine mc_ofE hl (plainFor_of_name pn_X6) (by simp [lg_sl, cat_rf, cat_i, cat_j, cat_f, cat_d]) ?_
  intro p e s m args below meth c R hRf hRl X hr hnm hE hHD ls a6
  rw [show argL [va_rf (some (hSz h0)), .int a2] = [some (va_rf (some (hSz h0))), some (.int a2)] from by simp [argL, cat_rf, cat_i, cat_j, cat_f, cat_d]] at a6
  obtain ⟨kX, hcell, hkX⟩ := hE
  have hts := X.2.2.2.2.1
  have hST := X.2.2.2.2.2.2.1
  have hKn := (X.2.2.2.2.2.1.1 7 _ rfl)
  have hfX : s.vm.findClass "FerryClocks$Refused" = some (D.1 7) := hKn.2.1
  refine lv_aload_n (x := hSz h0) X.1 X.2.1 dX6_init_0 rfl (a6.at rfl) ?_
  refine va_ldcS X.1 X.2.1 X.2.2.2.1 (X.2.2.2.2.2.1.2.2.2.2.1 3 _ rfl) dX6_init_1 ?_
  intro T hT XS
  have htr : e.platform.stackTraces = false := (show e.platform.stackTraces = l.stackTraces by rw [XS.admits.platform]).trans hl
  have hat : ∀ w ∈ gAt "FerryClocks$Refused" 3 "FerryClocks$Refused" 7 "java/lang/Exception" 7 Bundle.six [], w.before args s = true := fun w hw => wd_ok X (rf_words w hw)
  have hh : ∀ w ∈ gA "FerryClocks$Refused" 3 "FerryClocks$Refused" 7 "java/lang/Exception" 7 Bundle.six [], w.before args s = true := gA_all hat (vx_isRefq hST.2.2.1.1) (vx_isRefq hST.2.2.2.1.1) hST.2.2.1.2.word hST.2.2.2.1.2.word
  obtain ⟨V, ce, L9, Z, hL, hlt, hcl9, hvm9, hsz9, st9⟩ := lx_ctor XS X.1 htr (own := "FerryClocks$Refused") (cls := "FerryClocks$Refused") (Y1 := "java/lang/Exception") (names := []) (ic := 3) X.2.2.2.1 (by decide +kernel) Bundle.six_0 Bundle.six_1 Bundle.six_2 Bundle.six_5 (fun n hn => nomatch hn) hh (fun x hx => nomatch hx) hfX hkX (by rw [hT]; exact hcell) (fun cell hc => by
      cases hcell.symm.trans hc
      rfl) (msg := .ref (hSa (hskip h0 7) 4)) rfl
    (g := F0 m 3 ls [.ref (hSa (hskip h0 7) 4), .ref (hSz h0)]) rfl (a6.1.trans X.2.2.1.symm) (rest := []) rfl
    (by rw [X.2.1]; exact dX6_init_3) (by rw [hRf]; exact Nat.le_of_ble_eq_true rfl) (by rw [hRl]; exact Nat.le_of_ble_eq_true rfl)
  have hkind : ∃ v0 : Value, ce.slots[D.2 7 0]? = some v0 := by
    obtain ⟨cf, kf, fi, fd, hi, hs⟩ := hKn.1 0 (by decide)
    have hlay := u_lays (T := TK6) (N := 1) hts in_K6 (k := 0) (by decide)
    obtain ⟨-, -, hty⟩ := u_facts hfX hkX hlay hi
    have h2 := (Array.getElem?_eq_some_iff.mp hty).1
    exact ⟨_, Array.getElem?_eq_getElem (by rw [← hs, hsz9]; exact h2)⟩
  obtain ⟨v0, hv0⟩ := hkind
  obtain ⟨f1, f2⟩ := vx_frame Z.same
  have hhc : (V.setCell (hSz h0) ce).heap[hSz h0]? = some ce := heapAt_setCell_self (s := V) ce hlt
  have hz := hHD.2.1
  have hbase := hHD.2.2.1
  have hsz : (V.setCell (hSz h0) ce).heap.size = s.heap.size := by
    have h9 : (V.setCell (hSz h0) ce).heap.size ≤ s.heap.size + 0 := Z.same.2.2.1
    omega
  have hst7 : HD D dA (hset (hskip h0 7) (hSz h0) (.inr (7, [v0]))) (V.setCell (hSz h0) ce).heap := hHD.set hsz (fun q hq => by
      by_cases hq2 : q < s.heap.size
      · exact f2 q hq2 (fun z hz9 => by rcases List.mem_append.mp hz9 with k | k; cases k; rw [hL z k]; exact fun e9 => hq e9.symm)
      · rw [Array.getElem?_eq_none (by omega), Array.getElem?_eq_none (by omega)]) ⟨_, rfl, rfl, ce, hhc, hcl9, hvm9, fun k hk => by
        have hk1 : k < 1 := hk
        obtain rfl : k = 0 := by omega
        exact hv0⟩
  have kG : G p l e R s m args below meth c (RQ D dA (hskip h0 7) (.inr none, hpush h0 (.inr (7, [.int a2])) 7) below s) D dA (hskip h0 7) 2 (hset (hskip h0 7) (hSz h0) (.inr (7, [v0]))) 6 [some (va_rf (some (hSz h0))), some (.int a2)] [] := by
    refine g_aload_n X dX6_init_6 rfl rfl ?_
    refine g_iload_n X dX6_init_7 rfl rfl ?_
    refine g_putF (ci := 7) (k := 0) (h' := hpush h0 (.inr (7, [.int a2])) 7) X in_K6 tyK6 tyK6_ok nmK6 rfl (by decide) q472 rfl rfl hnm rfl (tyK6_ok 0 (by decide)) rfl rfl ?_ dX6_init_8 ?_
    · have e1 : hF (hset (hskip h0 7) (hSz h0) (.inr (7, [v0]))) (hSz h0) = some (.inr (7, [v0])) := by show va_up _ _ _ _ = _; simp [va_up]
      have e3 : ∀ (f : Nat → Option AC) (k : Nat) (x y : Option AC), va_up (va_up (va_up f k none) k x) k y = va_up f k y := fun f k x y => by
        funext j
        simp only [va_up]
        split <;> rfl
      have e2 : hset (hset (hskip h0 7) (hSz h0) (.inr (7, [v0]))) (hSz h0) (.inr (7, [.int a2])) = hpush h0 (.inr (7, [.int a2])) 7 := by
        show (h0.1, h0.2.1 + 1, h0.2.2.1 + 7, va_up (va_up (va_up h0.2.2.2 h0.2.1 none) h0.2.1 _) h0.2.1 _) = (h0.1, h0.2.1 + 1, h0.2.2.1 + 7, va_up h0.2.2.2 h0.2.1 _)
        rw [e3]
      unfold putV
      dsimp only
      rw [e1]
      show (if (7 : Nat) = 7 ∧ 0 < [v0].length ∧ hB _ ≤ hSz h0 then some (hset _ (hSz h0) (.inr (7, [v0].set 0 (.int a2)))) else none) = _
      exact (if_pos ⟨rfl, Nat.one_pos, hb7⟩).trans (congrArg some e2)
    · exact g_vret X hr dX6_init_11
  obtain ⟨t, b1, b2⟩ := kG (V.setCell (hSz h0) ce).heap ([] ++ L9) 0 0 ls hst7 rfl ⟨by omega, fun q h1 h2 => f2 q h1 (fun z hz9 => by rcases List.mem_append.mp hz9 with k | k; cases k; rw [hL z k]; exact fun e9 => h2 (by rw [← e9]; exact hb7)), fun z hz9 => by rcases List.mem_append.mp hz9 with k | k; cases k; rw [hL z k]; exact hb7⟩ (by show 0 + hSz (hskip h0 7) = hSz (hskip h0 7); omega) (by show 0 + hSl (hskip h0 7) = hSl (hskip h0 7); omega) a6 _ rfl Z
  exact ⟨t, st9 _ b1, b2⟩
def F_X1_need (a1 : Int32) (a2 : Int32) (h0 : HH) : Option (((Nat × String) ⊕ Unit) × HH) :=
  if a1 = 0 then (Option.bind (F_X6_init a2 h0) fun h1 => thrO h1 (some (hSz h0))) else some (.inr (), h0)
set_option maxHeartbeats 4000000 in
theorem w_X1_need (l : Launch) (hl : l.stackTraces = false) (D : va_G) (dA : Nat → ClassId) (h0 : HH) (a1 : Int32) (a2 : Int32) (oE : (Nat × String) ⊕ Unit) (hE : HH) (hF : F_X1_need a1 a2 h0 = some (oE, hE)) : MC D dA l yX1_need cX1_need 2 (Option.none : Option Jvm.ClassFile.FieldType) [] 10 300 [.int a1, .int a2] h0 (rsV oE, hE) := by
  refine mc_of hl (plainFor_of_name pn_X1) (by simp [lg_sl, cat_rf, cat_i, cat_j, cat_f, cat_d]) ?_
  intro p e s m args below meth c R hRf hRl X hr hnm
  unfold F_X1_need at hF
  rw [show argL [.int a1, .int a2] = [some (.int a1), some (.int a2)] from by simp [argL, cat_rf, cat_i, cat_j, cat_f, cat_d]]
  refine g_iload_n X dX1_need_0 rfl rfl ?_
  refine g_if_ne X 13 dX1_need_1 (by decide) (fun c1 => ?_) (fun c1 => ?_)
  · have hF := (if_neg c1).symm.trans hF
    cases hF
    exact g_vret X hr dX1_need_13
  have hF := (if_pos c1).symm.trans hF
  obtain ⟨h1, eh1, hF⟩ := bnd hF
  unfold F_X6_init at eh1
  split at eh1
  rotate_left
  · cases eh1
  rename_i hroom
  have eh1 := Option.some.inj eh1
  have hb0 := X.2.2.2.2.2.2.2.2.2.2.2.2.1
  have kA : ∀ L, G p l e R s m args below meth c (RQ D dA h0 (rsV oE, hE) below s) D dA h0 2 h1 12 L [va_rf (some (hSz h0))] := fun L => g_athrowR X hF (fun x hx => nomatch hx) dX1_need_12
  intro H locs cells slots ls a1' a2' a3 a4 a5 a6 T hT XS
  have hts := X.2.2.2.2.1
  have hz := a1'.2.1
  have r1 := X.2.2.2.2.2.2.2.2.2.1
  have r2 := X.2.2.2.2.2.2.2.2.2.2.1
  have e1' := hLim_eq a2'
  have e2' := hSlim_eq a2'
  obtain ⟨vm₁, cX, kX, hfX, hkX, -, -, X₁, st1⟩ := XS.newCold X.1 (own := RX1) (C := "FerryClocks$Refused") (index := 15) (n := 7) X.2.2.2.1 (hts _ q277) (hts _ q423) (hts _ q113)
    (g := F0 m 4 ls []) rfl (by rw [X.2.1]; exact dX1_need_4) (by omega) (by omega)
  have hKc := (X.2.2.2.2.2.1.1 7 _ rfl).2.1
  have hcX : cX = D.1 7 := Option.some.inj (hfX.symm.trans hKc)
  subst hcX
  generalize hT1 : (T.setVm vm₁).pushCell { cls := D.1 7, slots := kX.instanceTypes.map defaultValue, vm := .none } = T1 at X₁ st1
  have hcellA : T1.heap[H.size]? = some (freshCell (D.1 7) kX) := by rw [← hT1, ← hT]; exact State.heap_pushCell_size _ _
  have hT1s : T1.heap.size = H.size + 1 := by rw [← hT1, ← hT]; exact Array.size_push _
  have hT1q : ∀ q : Nat, q < H.size → T1.heap[q]? = H[q]? := fun q hq => by
    rw [← hT1, ← hT] at *
    exact (Array.getElem?_push_lt hq).trans (Array.getElem?_eq_getElem hq).symm
  have hHD1 : HD D dA (hskip h0 7) T1.heap := a1'.skip hT1s hT1q hroom.1 hroom.2
  have hS1 : va_S (fA h0) s.heap T1.heap locs := ⟨Nat.le_trans a3.1 (by omega), fun q h1 h2 => (hT1q q (Nat.lt_of_lt_of_le h1 a3.1)).trans (a3.2.1 q h1 h2), a3.2.2⟩
  have d7' : decode c.code 7 = .ok (.dup, 1) := by rw [X.2.1]; exact dX1_need_7
  have d8' : decode c.code 8 = .ok (.iload_n 1, 1) := by rw [X.2.1]; exact dX1_need_8
  have hK := mc_backE (p := p) (e := e) (below := below) (s := s) (R := R) (sargs := args) (len := 3) (EE := E7 D (hSz h0)) (fun U g mk a9 hx => hx) (w_X6_init l hl D dA h0 a2 a1'.2.2.1) (by rw [hRf]; exact Nat.le_of_ble_eq_true rfl) (by rw [hRl]; exact Nat.le_of_ble_eq_true rfl) (ws_pay X (hc9 := []) q464) (init_pay X (C := yX6_init.cls) q113)
  have hpl : e.platform.magicAccessors = ({} : Platform).magicAccessors := by rw [XS.admits.platform]
  have hd : okName yX6_init 1 := ⟨by decide +kernel, by decide +kernel, by decide +kernel⟩
  obtain ⟨mk, methM, cM, kP, vm₂, hnamed, hmethM, hcodeM, -, hlocalsM, -, hkP, -, hW₁, hstep₁⟩ := Steps.initColdArgs (e := e) X₁.here X.1 X₁.warmed hpl X.2.2.2.1 (t := yX6_init) rfl ⟨hd.1, hd.2.1⟩ (hts _ q462) (hts _ q463) (hts _ q464) (f := F0 m 9 ls [.int a2, .ref H.size, .ref H.size]) rfl (by exact hd.len) (show [Value.int a2, .ref H.size, .ref H.size] = [Value.int a2].reverse ++ .ref H.size :: [.ref H.size] from rfl) (by rw [X.2.1]; exact dX1_need_9)
  have X₂ := X₁.noted hW₁
  have hE7 : E7 D (hSz h0) (T1.setVm vm₂) := by
    obtain ⟨kX', hkX', he⟩ := X₂.warmed.alike.2.2 _ _ hkX
    have ht : kX'.instanceTypes = kX.instanceTypes := by rw [he]
    refine ⟨kX', ?_, hkX'⟩
    rw [← hz]
    refine hcellA.trans ?_
    simp only [freshCell, ht]
  rcases hK m meth c ⟨T1.setVm vm₂, locs, cells + 1, slots + 7⟩ { (F0 m 9 ls [.int a2, .ref H.size, .ref H.size]) with stack := [.ref H.size] } (.invokespecial 17) mk (Value.ref H.size :: [.int a2]).toArray X₂ rfl (a6.1.trans X.2.2.1.symm) (by rw [X.2.1]; exact dX1_need_9) (room8 (pc := 9) (m := m) (ls := ls) (st := [.int a2, .ref H.size, .ref H.size]) (rest := [.ref H.size]) (by simp [Value.category])) (X₂.named hnamed)
    ⟨by have hp := pre_ok (p := p) (As := [va_rf (some (hSz h0)), .int a2]) X (h := hskip h0 7) (H := T1.heap) (locs := locs) (cells := cells + 1) (slots := slots + 7) hHD1 a2' hS1 (by show cells + 1 + hSz h0 = hSz h0 + 1; omega) (by show slots + 7 + hSl h0 = hSl h0 + 7; omega) (T := T1) rfl vm₂ X₂.warmed
        rw [hz]
        exact hp, hE7⟩ with ⟨v, B, X', ⟨hv, hEnd⟩, hsteps⟩ | ⟨q, B, X', ⟨E, ce, hv, -⟩, hsteps⟩
  rotate_left
  · cases hv
  cases hv
  have hok := end_ok (rest := []) X (h := hskip h0 7) (H := T1.heap) (T := T1) (vm₁ := vm₂) (cells := cells + 1) (slots := slots + 7) a2' hS1 (by show cells + 1 + hSz h0 = hSz h0 + 1; omega) (by show slots + 7 + hSl h0 = hSl h0 + 7; omega) a6 rfl hEnd
  obtain ⟨t, b1, b2⟩ := kA [some (.int a1), some (.int a2)] B.U.heap B.locs B.cells B.slots ls (by rw [← eh1]; exact hok.1) (by rw [← eh1]; rfl) hok.2.2.1 (by rw [← eh1]; exact hok.2.2.2.1) (by rw [← eh1]; exact hok.2.2.2.2) a6 B.U rfl X'
  refine ⟨t, st1 _ ?_, b2⟩
  rw [hT]
  jvm_step X₁.here [X₁.here.top, X.1, d7', Value.category]
  jvm_step X₁.here [X₁.here.top, X.1, d8', a6.at (i := 1) (v := .int a2) rfl]
  refine hstep₁ _ fun acts => ?_
  rw [doInvoke_state]
  refine hsteps.trans ?_
  rw [← hz] at b1
  exact b1
