/-! calls of inherited methods, of private methods above, of super's, of a private constructor in the nest -/
section GG
variable {p : Program} {l : Launch} {e : Env} {R : Room} {s : State} {m : MethodId} {args : Array Value} {below : List Frame} {meth : Method} {c : Code} {Q : State → Prop} {D : va_G} {dA : Nat → ClassId} {h0 : HH} {nL : Nat} {h : HH} {pc : Nat} {L : List (Option Value)} {st : List Value} {cc : ByteArray} {own : String} {hh : List (Nat × Nat × Nat × Nat)}
theorem g_callU (X : FX p l s m args meth R c cc nL own D dA h0 hh) {y : MethodName} {bytes : ByteArray} {maxL fr lo index ci b : Nat} {q0 : vw_C} {C : String} {r : Option Nat} {ret : Option FieldType} {hc9 : List (Nat × Nat × Nat × Nat)} {As rest : List Value} {res : Res} (hb : isO h ci r = some b) (hcl : fcl[ci]? = some q0) (hCy : q0.1 = C) (hM : MC D dA l y bytes maxL ret hc9 fr lo (va_rf (some b) :: As) h res) (hlink : Cond.methodLink own index y ∈ lw_all) (hinst : Cond.instanceMethod y ∈ lw_all) (hsel : Cond.selects C y y ∈ lw_all) (hini : Cond.initialized y.cls ∈ lw_all) (hcode : codeW y bytes maxL ret hc9 ∈ lw_all) (hd : okName y As.length) (hR : fr + 1 ≤ R.frames ∧ 8 + (maxL + 11) + lo ≤ R.locals) (hst : st = As.reverse ++ va_rf r :: rest) (hw8 : (rest.map fun v => v.category).sum ≤ 8) (d : decode cc pc = .ok (.invokevirtual index, 3)) (kk : AfterC p l e R s m args below meth c Q D dA h0 nL pc L rest res) : G p l e R s m args below meth c Q D dA h0 nL h pc L st := by
  obtain ⟨rfl, -⟩ := isO_some hb
  intro H locs cells slots ls a1 a2 a3 a4 a5 a6 T hT XS
  have hts := X.2.2.2.2.1
  have hK := mc_back (p := p) (e := e) (below := below) (s := s) (sargs := args) (len := 3) hM hR.1 hR.2 (ws_pay X hcode) (init_pay X hini)
  obtain ⟨mk, methM, hnamed, hmethM, hstM, habM⟩ := Cond.instanceMethod_spec (hts _ hinst)
  obtain ⟨mk9, methM', cM, hnamed', hmethM', -, -, -, -, -, -, hsigM⟩ := codeW_spec (hts _ hcode)
  cases hnamed.symm.trans hnamed'
  cases hmethM.symm.trans hmethM'
  obtain ⟨c2, r2, m2, q1, q2, q3, q4, kP, hkP, hkPi⟩ := Cond.selects_spec (hts _ hsel)
  obtain ⟨cellB, hcB, hoB, hclB⟩ := recvC X hcl hb a1
  rw [hCy] at hclB
  cases hclB.symm.trans q1
  cases (State.methodFound?_of_named hnamed ⟨hd.1, hd.2.1⟩).symm.trans q2
  cases hnamed.symm.trans q3
  have hselP : selectMethod e.platform s.vm cellB.cls mk = .method mk := by rw [Launch.admits_selectMethod XS.admits]; exact q4
  obtain ⟨vm₁, X₁, hstep₁⟩ := XS.invokevirtual X.1 X.2.2.2.1 (hts _ hlink) hnamed hmethM hstM hkP hkPi ⟨hd.1, hd.2.1⟩ (a := b) (cell := cellB) (by rw [hT]; exact hcB) hoB hselP hmethM habM hkP hkPi (g := F0 m pc ls st) rfl (argsL := As) (rest := rest) (hd.len _ hsigM) hst (by rw [X.2.1]; exact d)
  rcases hK m meth c ⟨T.setVm vm₁, locs, cells, slots⟩ { (F0 m pc ls st) with stack := rest } (.invokevirtual index) mk (Value.ref b :: As).toArray X₁ rfl (a6.1.trans X.2.2.1.symm) (by rw [X.2.1]; exact d) (room8 hw8) (X₁.named hnamed) (pre_ok (As := va_rf (some b) :: As) X a1 a2 a3 a4 a5 hT vm₁ X₁.warmed) with ⟨v, B, X', ⟨hv, hE⟩, hsteps⟩ | ⟨q, B, X', ⟨E, ce, hv, h1, h2, h3, hE⟩, hsteps⟩
  · obtain ⟨t, b1, b2⟩ := ac_use kk a6 (end_ok X (rest := rest) a2 a3 a4 a5 a6 hT hE) hv X'
    exact ⟨t, hstep₁ _ fun acts => by rw [doInvoke_state]; exact hsteps.trans b1, b2⟩
  · obtain ⟨t, b1, b2⟩ := ac_useX kk a6 (end_ok X (rest := rest) a2 a3 a4 a5 a6 hT hE) hv h1 h2 (vx_cls X₁.warmed h3) rest X'
    exact ⟨t, hstep₁ _ fun acts => by rw [doInvoke_state]; exact hsteps.trans b1, b2⟩
theorem g_callP (X : FX p l s m args meth R c cc nL own D dA h0 hh) {y : MethodName} {bytes : ByteArray} {maxL fr lo index ci b : Nat} {q0 : vw_C} {r : Option Nat} {ret : Option FieldType} {hc9 : List (Nat × Nat × Nat × Nat)} {As rest : List Value} {res : Res} (hb : isO h ci r = some b) (hcl : fcl[ci]? = some q0) (hM : MC D dA l y bytes maxL ret hc9 fr lo (va_rf (some b) :: As) h res) (hlink : Cond.methodLink own index y ∈ lw_all) (hinst : Cond.instanceMethod y ∈ lw_all) {C : String} {z : MethodName} (hsel : Cond.selects C z z ∈ lw_all) (hz : z.cls = y.cls) (hzn : okName z 0) (hpriv : Cond.privateMethod y ∈ nwl) (hini : Cond.initialized y.cls ∈ lw_all) (hcode : codeW y bytes maxL ret hc9 ∈ lw_all) (hd : okName y As.length) (hR : fr + 1 ≤ R.frames ∧ 8 + (maxL + 11) + lo ≤ R.locals) (hst : st = As.reverse ++ va_rf r :: rest) (hw8 : (rest.map fun v => v.category).sum ≤ 8) (d : decode cc pc = .ok (.invokevirtual index, 3)) (kk : AfterC p l e R s m args below meth c Q D dA h0 nL pc L rest res) : G p l e R s m args below meth c Q D dA h0 nL h pc L st := by
  obtain ⟨rfl, -⟩ := isO_some hb
  intro H locs cells slots ls a1 a2 a3 a4 a5 a6 T hT XS
  have hts := X.2.2.2.2.1
  have hK := mc_back (p := p) (e := e) (below := below) (s := s) (sargs := args) (len := 3) hM hR.1 hR.2 (ws_pay X hcode) (init_pay X hini)
  obtain ⟨mk, methM, hnamed, hmethM, hstM, habM⟩ := Cond.instanceMethod_spec (hts _ hinst)
  obtain ⟨mk9, methM', cM, hnamed', hmethM', -, -, -, -, -, -, hsigM⟩ := codeW_spec (hts _ hcode)
  cases hnamed.symm.trans hnamed'
  cases hmethM.symm.trans hmethM'
  obtain ⟨c2, r2, m2, q1, q2, q3, q4, kP, hkP0, hkPi⟩ := Cond.selects_spec (hts _ hsel)
  obtain ⟨cellB, hcB, hoB, hclB⟩ := recvC X hcl hb a1
  have hmc : m2.cls = mk.cls := by
    have e1 := findClass_of_methodNamed q3
    have e2 := findClass_of_methodNamed hnamed
    rw [hz] at e1
    exact Option.some.inj (e1.symm.trans e2)
  have hkP : s.vm.classes[mk.cls]? = some kP := by rw [← hmc]; exact hkP0
  have hselP : selectMethod e.platform s.vm cellB.cls mk = .method mk := selectMethod_private hmethM (Cond.privateMethod_at (va_Nw.use (A := args) rfl (X.2.2.2.2.2.1.2.2.1 _ hpriv)) mk methM hnamed hmethM)
  obtain ⟨vm₁, X₁, hstep₁⟩ := XS.invokevirtual X.1 X.2.2.2.1 (hts _ hlink) hnamed hmethM hstM hkP hkPi ⟨hd.1, hd.2.1⟩ (a := b) (cell := cellB) (by rw [hT]; exact hcB) hoB hselP hmethM habM hkP hkPi (g := F0 m pc ls st) rfl (argsL := As) (rest := rest) (hd.len _ hsigM) hst (by rw [X.2.1]; exact d)
  rcases hK m meth c ⟨T.setVm vm₁, locs, cells, slots⟩ { (F0 m pc ls st) with stack := rest } (.invokevirtual index) mk (Value.ref b :: As).toArray X₁ rfl (a6.1.trans X.2.2.1.symm) (by rw [X.2.1]; exact d) (room8 hw8) (X₁.named hnamed) (pre_ok (As := va_rf (some b) :: As) X a1 a2 a3 a4 a5 hT vm₁ X₁.warmed) with ⟨v, B, X', ⟨hv, hE⟩, hsteps⟩ | ⟨q, B, X', ⟨E, ce, hv, h1, h2, h3, hE⟩, hsteps⟩
  · obtain ⟨t, b1, b2⟩ := ac_use kk a6 (end_ok X (rest := rest) a2 a3 a4 a5 a6 hT hE) hv X'
    exact ⟨t, hstep₁ _ fun acts => by rw [doInvoke_state]; exact hsteps.trans b1, b2⟩
  · obtain ⟨t, b1, b2⟩ := ac_useX kk a6 (end_ok X (rest := rest) a2 a3 a4 a5 a6 hT hE) hv h1 h2 (vx_cls X₁.warmed h3) rest X'
    exact ⟨t, hstep₁ _ fun acts => by rw [doInvoke_state]; exact hsteps.trans b1, b2⟩
theorem g_callSU (X : FX p l s m args meth R c cc nL own D dA h0 hh) {y : MethodName} {bytes : ByteArray} {maxL fr lo index ci b : Nat} {q0 : vw_C} {r : Option Nat} {ret : Option FieldType} {hc9 : List (Nat × Nat × Nat × Nat)} {As rest : List Value} {res : Res} (hb : isO h ci r = some b) (hcl : fcl[ci]? = some q0) (hM : MC D dA l y bytes maxL ret hc9 fr lo (va_rf (some b) :: As) h res) (hlink : Cond.methodLink own index y ∈ lw_all) (hinst : Cond.instanceMethod y ∈ lw_all) (hsame : Cond.sameMethod y.cls y.cls y.name y.desc ∈ lw_all) (hsup : Cond.superclass own y.cls ∈ lw_all) (hno : y.name ≠ "<init>") (hini : Cond.initialized y.cls ∈ lw_all) (hcode : codeW y bytes maxL ret hc9 ∈ lw_all) (hd : okName y As.length) (hR : fr + 1 ≤ R.frames ∧ 8 + (maxL + 11) + lo ≤ R.locals) (hst : st = As.reverse ++ va_rf r :: rest) (hw8 : (rest.map fun v => v.category).sum ≤ 8) (d : decode cc pc = .ok (.invokespecial index, 3)) (kk : AfterC p l e R s m args below meth c Q D dA h0 nL pc L rest res) : G p l e R s m args below meth c Q D dA h0 nL h pc L st := by
  obtain ⟨rfl, -⟩ := isO_some hb
  intro H locs cells slots ls a1 a2 a3 a4 a5 a6 T hT XS
  have hts := X.2.2.2.2.1
  have hK := mc_back (p := p) (e := e) (below := below) (s := s) (sargs := args) (len := 3) hM hR.1 hR.2 (ws_pay X hcode) (init_pay X hini)
  obtain ⟨mk, methM, hnamed, hmethM, hstM, habM⟩ := Cond.instanceMethod_spec (hts _ hinst)
  obtain ⟨mk9, methM', cM, hnamed', hmethM', -, -, -, -, -, -, hsigM⟩ := codeW_spec (hts _ hcode)
  cases hnamed.symm.trans hnamed'
  cases hmethM.symm.trans hmethM'
  obtain ⟨cellB, hcB, hoB, hclB⟩ := recvC X hcl hb a1
  obtain ⟨kB, hkB, -⟩ := Vm.findClass_spec hclB
  obtain ⟨ps, dk, kp, hps, hdk, hkp, hsuper, -, -, hnid⟩ := Cond.superclass_spec X.2.2.2.1 (hts _ hsup)
  have hpm : ps = mk.cls := Option.some.inj (hps.symm.trans (findClass_of_methodNamed hnamed))
  have hsub : s.vm.isSubclass ps mk.cls = true := by rw [hpm]; simp [Vm.isSubclass, Vm.isSubclassAux]
  obtain ⟨vm₁, X₁, hstep₁⟩ := XS.invokespecialUp X.1 X.2.2.2.1 (hts _ hlink) (hts _ hsame) hnamed hmethM hstM habM hno hdk hnid hps hsuper hsub (a := b) (cell := cellB) (by rw [hT]; exact hcB) hoB hkB (g := F0 m pc ls st) rfl (argsL := As) (rest := rest) (hd.len _ hsigM) hst (by rw [X.2.1]; exact d)
  rcases hK m meth c ⟨T.setVm vm₁, locs, cells, slots⟩ { (F0 m pc ls st) with stack := rest } (.invokespecial index) mk (Value.ref b :: As).toArray X₁ rfl (a6.1.trans X.2.2.1.symm) (by rw [X.2.1]; exact d) (room8 hw8) (X₁.named hnamed) (pre_ok (As := va_rf (some b) :: As) X a1 a2 a3 a4 a5 hT vm₁ X₁.warmed) with ⟨v, B, X', ⟨hv, hE⟩, hsteps⟩ | ⟨q, B, X', ⟨E, ce, hv, h1, h2, h3, hE⟩, hsteps⟩
  · obtain ⟨t, b1, b2⟩ := ac_use kk a6 (end_ok X (rest := rest) a2 a3 a4 a5 a6 hT hE) hv X'
    exact ⟨t, hstep₁ _ (by rw [doInvoke_state]; exact hsteps.trans b1), b2⟩
  · obtain ⟨t, b1, b2⟩ := ac_useX kk a6 (end_ok X (rest := rest) a2 a3 a4 a5 a6 hT hE) hv h1 h2 (vx_cls X₁.warmed h3) rest X'
    exact ⟨t, hstep₁ _ (by rw [doInvoke_state]; exact hsteps.trans b1), b2⟩
theorem g_callIN (X : FX p l s m args meth R c cc nL own D dA h0 hh) {y : MethodName} {bytes : ByteArray} {maxL fr lo index b : Nat} {host : String} {r : Option Nat} {As rest : List Value} {res : Res} (hb : r = some b) (hM : MC D dA l y bytes maxL none [] fr lo (va_rf (some b) :: As) h res) (hy1 : y.name = "<init>") (hlink : Cond.methodLinkNest own index y host ∈ nwl) (hinst : Cond.instanceMethod y ∈ lw_all) (hini : Cond.initialized y.cls ∈ lw_all) (hcode : codeW y bytes maxL none [] ∈ lw_all) (hd : okName y As.length) (hR : fr + 1 ≤ R.frames ∧ 8 + (maxL + 11) + lo ≤ R.locals) (hst : st = As.reverse ++ va_rf r :: rest) (hw8 : (rest.map fun v => v.category).sum ≤ 8) (d : decode cc pc = .ok (.invokespecial index, 3)) (kk : AfterC p l e R s m args below meth c Q D dA h0 nL pc L rest res) : G p l e R s m args below meth c Q D dA h0 nL h pc L st := by
  subst hb
  intro H locs cells slots ls a1 a2 a3 a4 a5 a6 T hT XS
  have hts := X.2.2.2.2.1
  have hK := mc_back (p := p) (e := e) (below := below) (s := s) (sargs := args) (len := 3) hM hR.1 hR.2 (ws_pay X hcode) (init_pay X hini)
  have hpl : e.platform.magicAccessors = ({} : Platform).magicAccessors := by rw [XS.admits.platform]
  obtain ⟨mk9, methM', cM', hnamed', hmethM', -, -, -, -, -, -, hsigM⟩ := codeW_spec (hts _ hcode)
  obtain ⟨mk, methM, cM, kP, vm₁, hnamed, hmethM, hcodeM, -, hlocalsM, -, hkP, -, hW₁, hstep₁⟩ := Steps.initColdArgsNest (e := e) XS.here X.1 XS.warmed hpl X.2.2.2.1 hy1 ⟨hd.1, hd.2.1⟩ (va_Nw.use rfl (X.2.2.2.2.2.1.2.2.1 _ hlink)) (hts _ hinst) (hts _ hcode) (f := F0 m pc ls st) rfl hd.len hst (by rw [X.2.1]; exact d)
  have X₁ := XS.noted hW₁
  rcases hK m meth c ⟨T.setVm vm₁, locs, cells, slots⟩ { (F0 m pc ls st) with stack := rest } (.invokespecial index) mk (Value.ref b :: As).toArray X₁ rfl (a6.1.trans X.2.2.1.symm) (by rw [X.2.1]; exact d) (room8 hw8) (X₁.named hnamed) (pre_ok (As := va_rf (some b) :: As) X a1 a2 a3 a4 a5 hT vm₁ X₁.warmed) with ⟨v, B, X', ⟨hv, hE⟩, hsteps⟩ | ⟨q, B, X', ⟨E, ce, hv, h1, h2, h3, hE⟩, hsteps⟩
  · obtain ⟨t, b1, b2⟩ := ac_use kk a6 (end_ok X (rest := rest) a2 a3 a4 a5 a6 hT hE) hv X'
    exact ⟨t, hstep₁ _ fun acts => by rw [doInvoke_state]; exact hsteps.trans b1, b2⟩
  · obtain ⟨t, b1, b2⟩ := ac_useX kk a6 (end_ok X (rest := rest) a2 a3 a4 a5 a6 hT hE) hv h1 h2 (vx_cls X₁.warmed h3) rest X'
    exact ⟨t, hstep₁ _ fun acts => by rw [doInvoke_state]; exact hsteps.trans b1, b2⟩
def acpB (h : HH) (r0 : Option Nat) (sp : Int32) (r1 : Option Nat) (dp n : Int32) : Option HH := match r0, r1 with
  | some a0, some a => match hF h a0, hF h a with
    | some (.inl (t0, n0, .inl f)), some (.inl (t1, n1, .inl g)) => if (t0 = 1 ∧ t1 = 1 ∧ hB h ≤ a0 ∧ hB h ≤ a) ∧ (¬ sp < 0 ∧ ¬ dp < 0 ∧ ¬ n < 0) ∧ (sp.toNatClampNeg + n.toNatClampNeg ≤ n0 ∧ dp.toNatClampNeg + n.toNatClampNeg ≤ n1) ∧ (List.range n.toNatClampNeg).all (fun i => fits .byte (.int (f (sp.toNatClampNeg + i)))) = true then some (hset h a (.inl (1, n1, .inl (va_cpy f g sp.toNatClampNeg dp.toNatClampNeg n.toNatClampNeg)))) else none
    | _, _ => none
  | _, _ => none
theorem g_copyB {h' : HH} (X : FX p l s m args meth R c cc nL own D dA h0 hh) {index : Nat} {r0 r1 : Option Nat} {sp dp n : Int32} (hlink : Cond.methodLink own index arraycopyName ∈ lw_all) (hR : 1 ≤ R.frames ∧ 40 ≤ R.locals) (hw8 : (st.map fun v => v.category).sum ≤ 8) (hv : acpB h r0 sp r1 dp n = some h') (d : decode cc pc = .ok (.invokestatic index, 3)) (kk : G p l e R s m args below meth c Q D dA h0 nL h' (pc + 3) L st) : G p l e R s m args below meth c Q D dA h0 nL h pc L (.int n :: .int dp :: va_rf r1 :: .int sp :: va_rf r0 :: st) := fun H locs cells slots ls a1 a2 a3 a4 a5 a6 => by
  unfold acpB at hv
  split at hv
  rotate_left
  · cases hv
  rename_i a0 a
  split at hv
  rotate_left
  · cases hv
  rename_i t0 n0 f t1 n1 g ha0 ha1
  split at hv
  rotate_left
  · cases hv
  rename_i hc
  obtain ⟨⟨rfl, e9, hb0, hb1⟩, ⟨h1, h2, h3⟩, ⟨h4, h5⟩, hall⟩ := hc
  subst e9
  cases hv
  have nn : ∀ z : Int32, ¬ z < 0 → z.toInt = (z.toNatClampNeg : Int) := by
    intro z hz
    have hz0 : (0 : Int) ≤ z.toInt := by
      have := Int32.not_lt.mp hz
      simpa using Int32.le_iff_toInt_le.mp this
    show z.toInt = ((z.toInt.toNat : Nat) : Int)
    omega
  have hts := X.2.2.2.2.1
  have hw : nativeFrameWords "java/lang/System" "arraycopy" 5 ≤ 20 := by decide
  have hc0 : H[a0]? = some (arrV (dA 1) n0 (avV (.inl f))) := (a1.1 a0 _ ha0).1 hb0
  have hc1 : H[a]? = some (arrV (dA 1) n1 (avV (.inl g))) := (a1.1 a _ ha1).1 hb1
  obtain ⟨-, k0, hk0, cm0, hkk0⟩ := (X.2.2.2.2.2.1.2.1 1 _ rfl).1 n0 (avV (.inl f))
  obtain ⟨-, k1, hk1, cm1, hkk1⟩ := (X.2.2.2.2.2.1.2.1 1 _ rfl).1 n1 (avV (.inl g))
  intro T hT XS
  obtain ⟨vm', X', step⟩ := XS.arraycopy X.1 X.2.2.2.1 (hts _ hlink) (hts _ q395) (hts _ q394) (hts _ q110) (src := a0) (dst := a) (cs := arrV (dA 1) n0 (avV (.inl f))) (cd := arrV (dA 1) n1 (avV (.inl g))) (srcPos := sp) (destPos := dp) (n := n) (by rw [hT]; exact hc0) (by rw [hT]; exact hc1)
    (fun _ h => by cases h) (fun _ h => by cases h) (fun h => by cases h) (fun h => by cases h) hk0 hk1 hkk0 hkk1 rfl h1 h2 h3
    (by rw [nn sp h1, nn n h3]; show ¬ _ > ((arrV _ n0 _).slots.size : Int); rw [arrV_size]; omega)
    (by rw [nn dp h2, nn n h3]; show ¬ _ > ((arrV _ n1 _).slots.size : Int); rw [arrV_size]; omega)
    (fun vm₁ hal i hi => by
      have hx := List.all_eq_true.mp hall i (List.mem_range.mpr hi)
      have e : (arrV (dA 1) n0 (avV (.inl f))).slots.getD (sp.toNatClampNeg + i) .null = .int (f (sp.toNatClampNeg + i)) := by
        rw [Array.getD_eq_getD_getElem?, arrV_read _ _ (by omega)]
        rfl
      rw [e]
      exact ⟨hx, trivial⟩)
    (g := F0 m pc ls (.int n :: .int dp :: va_rf (some a) :: .int sp :: va_rf (some a0) :: st)) rfl (a6.1.trans X.2.2.1.symm) (rest := st) rfl (by rw [X.2.1]; exact d) hR.1 (by show 2 * 0 + _ + _ ≤ _; omega)
  have e1 : copied (arrV (dA 1) n0 (avV (.inl f))) (arrV (dA 1) n1 (avV (.inl g))) sp dp n = arrV (dA 1) n1 (avV (.inl (va_cpy f g sp.toNatClampNeg dp.toNatClampNeg n.toNatClampNeg))) := va_copied (fun z => .int z) (dA 1) (dA 1) f g h4
  rw [e1] at X' step
  generalize hce : arrV (dA 1) n1 (avV (.inl (va_cpy f g sp.toNatClampNeg dp.toNatClampNeg n.toNatClampNeg))) = ce at X' step
  have hl : a < H.size := (Array.getElem?_eq_some_iff.mp hc1).1
  have hheap : ((T.setVm vm').setCell a ce).heap = H.setIfInBounds a ce := by rw [← hT]; rfl
  have oq : ∀ q : Nat, q ≠ a → (H.setIfInBounds a ce)[q]? = H[q]? := fun q hq => by simp [Array.getElem?_setIfInBounds, Ne.symm hq]
  have eB : hB h0 ≤ a := by rw [← hB_eq a2]; exact hb1
  obtain ⟨t, b1, b2⟩ := kk (H.setIfInBounds a ce) _ cells slots ls (a1.set (by simp) oq (show (H.setIfInBounds a ce)[a]? = some _ by rw [hce]; simp [Array.getElem?_setIfInBounds, hl])) a2 ⟨by simp; exact a3.1, fun q g1 g2 => by
      rw [oq q (fun e => g2 (by rw [e]; exact eB))]
      exact a3.2.1 q g1 g2, fun q hq => by
      rcases List.mem_append.mp hq with k | k
      · exact a3.2.2 q k
      · obtain ⟨z, -, hz⟩ := List.mem_map.mp k
        rw [← hz]
        exact eB⟩ a4 a5 a6 _ hheap X'
  exact ⟨t, step t b1, b2⟩
def acpR (h : HH) (r0 : Option Nat) (sp : Int32) (r1 : Option Nat) (dp n : Int32) : Option HH := match r0, r1 with
  | some a0, some a => match hF h a0, hF h a with
    | some (.inl (t0, n0, .inr (.inr f))), some (.inl (t1, n1, .inr (.inr g))) => if (t0 = 2 ∧ t1 = 2 ∧ hB h ≤ a0 ∧ hB h ≤ a) ∧ (¬ sp < 0 ∧ ¬ dp < 0 ∧ ¬ n < 0) ∧ (sp.toNatClampNeg + n.toNatClampNeg ≤ n0 ∧ dp.toNatClampNeg + n.toNatClampNeg ≤ n1) ∧ (List.range n.toNatClampNeg).all (fun i => okstH h 2 (f (sp.toNatClampNeg + i))) = true then some (hset h a (.inl (2, n1, .inr (.inr (va_cpy f g sp.toNatClampNeg dp.toNatClampNeg n.toNatClampNeg))))) else none
    | _, _ => none
  | _, _ => none
theorem g_copyR {h' : HH} (X : FX p l s m args meth R c cc nL own D dA h0 hh) {index : Nat} {r0 r1 : Option Nat} {sp dp n : Int32} (hlink : Cond.methodLink own index arraycopyName ∈ lw_all) (hR : 1 ≤ R.frames ∧ 40 ≤ R.locals) (hw8 : (st.map fun v => v.category).sum ≤ 8) (hv : acpR h r0 sp r1 dp n = some h') (d : decode cc pc = .ok (.invokestatic index, 3)) (kk : G p l e R s m args below meth c Q D dA h0 nL h' (pc + 3) L st) : G p l e R s m args below meth c Q D dA h0 nL h pc L (.int n :: .int dp :: va_rf r1 :: .int sp :: va_rf r0 :: st) := fun H locs cells slots ls a1 a2 a3 a4 a5 a6 => by
  unfold acpR at hv
  split at hv
  rotate_left
  · cases hv
  rename_i a0 a
  split at hv
  rotate_left
  · cases hv
  rename_i t0 n0 f t1 n1 g ha0 ha1
  split at hv
  rotate_left
  · cases hv
  rename_i hc
  obtain ⟨⟨rfl, e9, hb0, hb1⟩, ⟨h1, h2, h3⟩, ⟨h4, h5⟩, hall⟩ := hc
  subst e9
  cases hv
  have nn : ∀ z : Int32, ¬ z < 0 → z.toInt = (z.toNatClampNeg : Int) := by
    intro z hz
    have hz0 : (0 : Int) ≤ z.toInt := by
      have := Int32.not_lt.mp hz
      simpa using Int32.le_iff_toInt_le.mp this
    show z.toInt = ((z.toInt.toNat : Nat) : Int)
    omega
  have hts := X.2.2.2.2.1
  have hw : nativeFrameWords "java/lang/System" "arraycopy" 5 ≤ 20 := by decide
  have hc0 : H[a0]? = some (arrV (dA 2) n0 (avV (.inr (.inr f)))) := (a1.1 a0 _ ha0).1 hb0
  have hc1 : H[a]? = some (arrV (dA 2) n1 (avV (.inr (.inr g)))) := (a1.1 a _ ha1).1 hb1
  obtain ⟨-, k0, hk0, cm0, hkk0⟩ := (X.2.2.2.2.2.1.2.1 2 _ rfl).1 n0 (avV (.inr (.inr f)))
  obtain ⟨-, k1, hk1, cm1, hkk1⟩ := (X.2.2.2.2.2.1.2.1 2 _ rfl).1 n1 (avV (.inr (.inr g)))
  intro T hT XS
  obtain ⟨vm', X', step⟩ := XS.arraycopy X.1 X.2.2.2.1 (hts _ hlink) (hts _ q395) (hts _ q394) (hts _ q110) (src := a0) (dst := a) (cs := arrV (dA 2) n0 (avV (.inr (.inr f)))) (cd := arrV (dA 2) n1 (avV (.inr (.inr g)))) (srcPos := sp) (destPos := dp) (n := n) (by rw [hT]; exact hc0) (by rw [hT]; exact hc1)
    (fun _ h => by cases h) (fun _ h => by cases h) (fun h => by cases h) (fun h => by cases h) hk0 hk1 hkk0 hkk1 rfl h1 h2 h3
    (by rw [nn sp h1, nn n h3]; show ¬ _ > ((arrV _ n0 _).slots.size : Int); rw [arrV_size]; omega)
    (by rw [nn dp h2, nn n h3]; show ¬ _ > ((arrV _ n1 _).slots.size : Int); rw [arrV_size]; omega)
    (fun vm₁ hal i hi => by
      have hx := List.all_eq_true.mp hall i (List.mem_range.mpr hi)
      have e : (arrV (dA 2) n0 (avV (.inr (.inr f)))).slots.getD (sp.toNatClampNeg + i) .null = va_rf (f (sp.toNatClampNeg + i)) := by
        rw [Array.getD_eq_getD_getElem?, arrV_read _ _ (by omega)]
        rfl
      rw [e]
      cases hy : f (sp.toNatClampNeg + i) with
      | none => exact ⟨rfl, trivial⟩
      | some y =>
        rw [hy] at hx
        unfold okstH at hx
        simp only at hx
        split at hx
        · rename_i ci fs hbF
          simp only [Bool.and_eq_true, decide_eq_true_eq] at hx
          obtain ⟨hok, hbb⟩ := hx
          obtain ⟨r', g0, -, cellV, g1, g2, g3, -⟩ := (a1.1 y _ hbF).1 hbb
          obtain ⟨-, kA, comp, C, e1, e2, e3, e4, e5⟩ := asg_ok X hok g0
          cases e2.symm.trans hk1
          cases e3.symm.trans hkk1
          obtain ⟨kC, hkC, -⟩ := (X.2.2.2.2.2.1.1 ci _ g0).2.2
          obtain ⟨kE, hkE, -⟩ := Vm.findClass_spec e4
          obtain ⟨kC', hkC', -⟩ := hal.2.2 _ _ hkC
          obtain ⟨kE', hkE', -⟩ := hal.2.2 _ _ hkE
          refine ⟨rfl, cellV, (show T.heap[y]? = some cellV by rw [hT]; exact g1), (fun q h => by rw [g3] at h; cases h), ⟨kC', by rw [g2]; exact hkC'⟩, ?_, ?_⟩
          · exact ⟨kE', hkE'⟩
          · show vm₁.assignable _ _ = true
            rw [hal.assignable, g2]
            exact e5
        · cases hx)
    (g := F0 m pc ls (.int n :: .int dp :: va_rf (some a) :: .int sp :: va_rf (some a0) :: st)) rfl (a6.1.trans X.2.2.1.symm) (rest := st) rfl (by rw [X.2.1]; exact d) hR.1 (by show 2 * 0 + _ + _ ≤ _; omega)
  have e1 : copied (arrV (dA 2) n0 (avV (.inr (.inr f)))) (arrV (dA 2) n1 (avV (.inr (.inr g)))) sp dp n = arrV (dA 2) n1 (avV (.inr (.inr (va_cpy f g sp.toNatClampNeg dp.toNatClampNeg n.toNatClampNeg)))) := va_copied (fun z => va_rf z) (dA 2) (dA 2) f g h4
  rw [e1] at X' step
  generalize hce : arrV (dA 2) n1 (avV (.inr (.inr (va_cpy f g sp.toNatClampNeg dp.toNatClampNeg n.toNatClampNeg)))) = ce at X' step
  have hl : a < H.size := (Array.getElem?_eq_some_iff.mp hc1).1
  have hheap : ((T.setVm vm').setCell a ce).heap = H.setIfInBounds a ce := by rw [← hT]; rfl
  have oq : ∀ q : Nat, q ≠ a → (H.setIfInBounds a ce)[q]? = H[q]? := fun q hq => by simp [Array.getElem?_setIfInBounds, Ne.symm hq]
  have eB : hB h0 ≤ a := by rw [← hB_eq a2]; exact hb1
  obtain ⟨t, b1, b2⟩ := kk (H.setIfInBounds a ce) _ cells slots ls (a1.set (by simp) oq (show (H.setIfInBounds a ce)[a]? = some _ by rw [hce]; simp [Array.getElem?_setIfInBounds, hl])) a2 ⟨by simp; exact a3.1, fun q g1 g2 => by
      rw [oq q (fun e => g2 (by rw [e]; exact eB))]
      exact a3.2.1 q g1 g2, fun q hq => by
      rcases List.mem_append.mp hq with k | k
      · exact a3.2.2 q k
      · obtain ⟨z, -, hz⟩ := List.mem_map.mp k
        rw [← hz]
        exact eB⟩ a4 a5 a6 _ hheap X'
  exact ⟨t, step t b1, b2⟩
def isA (h : HH) (t : Nat) (r : Option Nat) : Option Nat := match r with
  | none => none
  | some a => match hF h a with
    | some (.inl (t', _, _)) => if t' = t ∧ hB h ≤ a then some a else none
    | _ => none
theorem g_getC (X : FX p l s m args meth R c cc nL own D dA h0 hh) {index : Nat} {r : Option Nat} {a : Nat} (ha : isA h 2 r = some a) (hlink : Cond.methodLink own index ⟨"java/lang/Object", "getClass", "()Ljava/lang/Class;"⟩ ∈ lw_all) (hR : 1 ≤ R.frames ∧ 40 ≤ R.locals) (hw8 : (st.map fun v => v.category).sum ≤ 8) (d : decode cc pc = .ok (.invokevirtual index, 3)) (kk : G p l e R s m args below meth c Q D dA h0 nL h (pc + 3) L (va_rf (some (hSa h0 20)) :: st)) : G p l e R s m args below meth c Q D dA h0 nL h pc L (va_rf r :: st) := fun H locs cells slots ls a1 a2 a3 a4 a5 a6 => by
  unfold isA at ha
  cases r with
  | none => cases ha
  | some b =>
    simp only at ha
    split at ha
    rotate_left
    · cases ha
    rename_i t' n v hb
    split at ha
    rotate_left
    · cases ha
    rename_i hc
    obtain ⟨rfl, hbase⟩ := hc
    obtain rfl := Option.some.inj ha
    have hts := X.2.2.2.2.1
    have hnm : s.vm.findClass "[Ljava/lang/Object;" = some (dA 2) := prim_cls (t := 2) X.2.2.2.2.2.1 rfl (by decide)
    exact va_getC X.1 X.2.1 (X.2.2.1.trans a6.1.symm) X.2.2.2.1 (hts _ hlink) (va_Nw.use rfl (X.2.2.2.2.2.1.2.2.1 _ (nw_in q2421 rfl))) (hts _ q2420) (hts _ q367) (hts _ q384) X.2.2.2.2.2.1.2.2.2.2.2.1 ⟨arrV (dA 2) n (avV v), (a1.1 b _ hb).1 hbase, rfl, hnm⟩ hR.1 (by omega) d (kk H locs cells slots ls a1 a2 a3 a4 a5 a6)
theorem g_ldcM (X : FX p l s m args meth R c cc nL own D dA h0 hh) {index : Nat} (hlink : Cond.classLink own index "[Ljava/lang/Object;" ∈ lw_all) (d : decode cc pc = .ok (.ldc index, 2)) (kk : G p l e R s m args below meth c Q D dA h0 nL h (pc + 2) L (va_rf (some (hSa h0 20)) :: st)) : G p l e R s m args below meth c Q D dA h0 nL h pc L st := fun H locs cells slots ls a1 a2 a3 a4 a5 a6 =>
  va_ldcM X.1 X.2.1 X.2.2.2.1 (X.2.2.2.2.1 _ hlink) X.2.2.2.2.2.1.2.2.2.2.2.1 d (kk H locs cells slots ls a1 a2 a3 a4 a5 a6)
theorem g_getsU (X : FX p l s m args meth R c cc nL own D dA h0 hh) {index : Nat} (hlink : Cond.fieldLink own index "jdk/internal/util/Preconditions" "SIOOBE_FORMATTER" "Ljava/util/function/BiFunction;" ∈ lw_all) (d : decode cc pc = .ok (.getstatic index, 3)) (k : ∀ v : Option Nat, G p l e R s m args below meth c Q D dA h0 nL h (pc + 3) L (va_rf v :: st)) : G p l e R s m args below meth c Q D dA h0 nL h pc L st := fun H locs cells slots ls a1 a2 a3 a4 a5 a6 => by
  rcases X.2.2.2.2.2.2.1.2.2.2.2 with z | ⟨t, z⟩
  · exact va_gets X.1 X.2.1 z a3 X.2.2.2.1 (X.2.2.2.2.1 _ hlink) (fun x q => q) d (k none H locs cells slots ls a1 a2 a3 a4 a5 a6)
  · exact va_gets X.1 X.2.1 z a3 X.2.2.2.1 (X.2.2.2.2.1 _ hlink) (fun x q => q) d (k (some t) H locs cells slots ls a1 a2 a3 a4 a5 a6)
end GG
