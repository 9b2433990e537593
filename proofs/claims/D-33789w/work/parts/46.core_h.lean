/-! exceptions: the constructors of Throwable's line, run on a fresh cell -/
def gchain (Y : String) (iy : Nat) (ry : ByteArray) : List String → List Cond
  | [] => Bundle.passSAtoms Y Bundle.tN iy ry
  | Z :: r => Bundle.passSAtoms Y Z iy ry ++ Bundle.chainSAtoms Z r
def gA (own : String) (ic : Nat) (cls : String) (n : Nat) (Y : String) (iy : Nat) (ry : ByteArray) (names : List String) : List Cond :=
  Bundle.throwableAtoms ++ Bundle.throwableSAtoms ++ gchain Y iy ry names ++
  [.methodLink own ic (Bundle.initS Y), .instantiable cls n, .selects cls Bundle.tFill0 Bundle.tFill0, .selects cls Bundle.tFill Bundle.tFill,
   .lays cls Bundle.tN "cause" "Ljava/lang/Throwable;", .lays cls Bundle.tN "stackTrace" Bundle.steD, .lays cls Bundle.tN "suppressedExceptions" Bundle.listD, .lays cls Bundle.tN "detailMessage" "Ljava/lang/String;",
   .isRef (.static Bundle.tN "UNASSIGNED_STACK" Bundle.steD), .isRef (.static Bundle.tN "SUPPRESSED_SENTINEL" Bundle.listD),
   .fieldLink Bundle.tN 198 Bundle.tN "backtrace" "Ljava/lang/Object;", .lays Bundle.tN Bundle.tN "backtrace" "Ljava/lang/Object;", .lays cls Bundle.tN "backtrace" "Ljava/lang/Object;"]
theorem lx_chain {args : Array Value} {s : State} {pl : Platform} (hpl : pl.magicAccessors = ({} : Platform).magicAccessors) {top : MethodId} (htop : s.methodNamed? (Bundle.initS Bundle.tN) = some top)
    {ix : Nat} {rx : ByteArray} (x0 : decode rx 0 = .ok (.aload_n 0, 1)) (x1 : decode rx 1 = .ok (.aload_n 1, 1)) (x2 : decode rx 2 = .ok (.invokespecial ix, 3)) (x5 : decode rx 5 = .ok (.return_, 1)) :
    ∀ (names : List String) (X : String), Bundle.fit X = true → (∀ n ∈ names, Bundle.fit n = true) → (∀ c ∈ gchain X ix rx names, c.before args s = true) →
      ∃ (P1 : PassC) (Ps : List PassC), Ps.length = names.length ∧ P1.LinksS pl s ∧ (∀ P, P ∈ Ps → P.LinksS pl s) ∧ s.methodNamed? (Bundle.initS X) = some P1.m ∧
        P1.sup = firstOf top (Ps.map (·.toPassT)) ∧ PassesOn top (Ps.map (·.toPassT)) := by
  intro names
  cases names with
  | nil =>
    intro X hX _ h
    obtain ⟨P, L, hm, hs⟩ := PassC.ofS_atoms (args := args) (s := s) hpl (X := X) (Y := Bundle.tN) (Bundle.fit_spec hX).1 (by decide) x0 x1 x2 x5 h
    exact ⟨P, [], rfl, L, (fun _ hP => by cases hP), hm, Option.some.inj (hs.symm.trans htop), trivial⟩
  | cons Y r =>
    intro X hX hn h
    obtain ⟨P1, Ps, hlen, L1, hL, hm1, hl1, hl⟩ := Bundle.chainS (args := args) hpl htop r Y (hn Y List.mem_cons_self) (fun n hq => hn n (List.mem_cons_of_mem _ hq)) (fun c hc => h c (List.mem_append_right _ hc))
    obtain ⟨P, L, hm, hs⟩ := PassC.ofS_atoms (args := args) (s := s) hpl (X := X) (Y := Y) (Bundle.fit_spec hX).1 (Bundle.fit_spec (hn Y List.mem_cons_self)).2 x0 x1 x2 x5 (fun c hc => h c (List.mem_append_left _ hc))
    refine ⟨P, P1 :: Ps, by simp [hlen], L, fun Q hQ => ?_, hm, Option.some.inj (hs.symm.trans hm1), hl1, hl⟩
    rcases List.mem_cons.mp hQ with rfl | hQ
    · exact L1
    · exact hL Q hQ
section XK
variable {p : Program} {l : Launch} {e : Env} {R : Room} {s : State} {m₀ : MethodId} {args : Array Value} {below : List Frame} {meth : Method} {c : Code} {W : State} {locs : List Loc} {cells slots : Nat}
set_option maxHeartbeats 1000000 in
theorem lx_ctor (X : Stand p l e R s m₀ args below meth c W locs cells slots) (hexec : p.tables.exec = Jvm.exec) (htr : e.platform.stackTraces = false) {own cls Y1 : String} {names : List String} {ic nS iy : Nat} {ry : ByteArray}
    (hown : s.vm.findClass own = some m₀.cls) (hY1 : Bundle.fit Y1 = true) (x0 : decode ry 0 = .ok (.aload_n 0, 1)) (x1 : decode ry 1 = .ok (.aload_n 1, 1)) (x2 : decode ry 2 = .ok (.invokespecial iy, 3)) (x5 : decode ry 5 = .ok (.return_, 1)) (hnames : ∀ n ∈ names, Bundle.fit n = true)
    (h : ∀ a ∈ gA own ic cls nS Y1 iy ry names, a.before args s = true)
    (hlocs : ∀ x ∈ locs, ∀ cell, s.heap[x.base]? = some cell → cell.vm.isStatics = false)
    {a : Addr} {cX : ClassId} {kX : Class} (hfoundX : s.vm.findClass cls = some cX) (hkX : s.vm.classes[cX]? = some kX) (hcell : W.heap[a]? = some (freshCell cX kX)) (hns : ∀ cell, s.heap[a]? = some cell → cell.vm.isStatics = false)
    {msg : Value} (hmsg : msg.isRef = true)
    {g : JFrame} (hg : g.method = m₀) (hsize : g.locals.size = c.maxLocals) {rest : List Value} (hstack : g.stack = msg :: .ref a :: rest)
    (hd6 : decode c.code g.pc = .ok (.invokespecial ic, 3))
    (hRframes : names.length + 3 < R.frames) (hRlocals : 2 * g.monitorRoom + (rest.map fun v => v.category).sum + (13 * (names.length + 1) + 42) ≤ R.locals) :
    ∃ (V : State) (ce : Cell) (L : List Loc), Stand p l e R s m₀ args below meth c (V.setCell a ce) (locs ++ L) cells slots ∧ (∀ y ∈ L, y.base = a) ∧ a < V.heap.size ∧ ce.cls = cX ∧ ce.vm = .none ∧ ce.slots.size = kX.instanceTypes.size ∧
      ∀ target, Steps p.tables e below ((V.setCell a ce).setTop { g with stack := rest, pc := g.pc + 3 }) target → Steps p.tables e below (W.setTop g) target := by
  have howns : e.platform.frameOwnsMonitors = true := by rw [X.admits.platform]
  have hfin : e.platform.finalization = false := by rw [X.admits.platform]
  have hpl : e.platform.magicAccessors = ({} : Platform).magicAccessors := by rw [X.admits.platform]
  have a' : ∀ x, x ∈ gA own ic cls nS Y1 iy ry names → x.holds args s none s [] = true := fun x hx => h x hx
  obtain ⟨T, Z0, L, -, Y⟩ := ThrowableC.of_atoms (args := args) howns hfin hpl (fun x hx => h x (by simp [gA, hx]))
  obtain ⟨Z, M, LZ, LM, hnZ⟩ := Init0T.ofS_atoms (args := args) hpl L Y (fun x hx => h x (by simp [gA, hx]))
  obtain ⟨P1, Ps, hlen, L1, hL, hP1m, hlink1, hlink⟩ := lx_chain (args := args) hpl hnZ x0 x1 x2 x5 names Y1 hY1 hnames (fun x hx => h x (by simp [gA, hx]))
  have hfound : s.vm.findClass cls = some cX := hfoundX
  obtain ⟨c1, kX', hc1, hk, hord, -, -, hn6⟩ := Cond.instantiable_spec (a' (.instantiable cls nS) (by simp [gA]))
  cases Option.some.inj (hc1.symm.trans hfound)
  cases Option.some.inj (hkX.symm.trans hk)
  have hsel0 : selectMethod e.platform s.vm cX T.fill0 = .method T.fill0 := by
    obtain ⟨c2, r2, m2, q1, q2, q3, q4, -⟩ := Cond.selects_spec (a' (.selects cls Bundle.tFill0 Bundle.tFill0) (by simp [gA]))
    cases Option.some.inj (q1.symm.trans hfound)
    cases Option.some.inj (q2.symm.trans (State.methodFound?_of_named Y.fill0 (by decide)))
    cases Option.some.inj (q3.symm.trans Y.fill0)
    rw [Launch.admits_selectMethod X.admits]; exact q4
  have hselF : selectMethod e.platform s.vm cX T.fill = .method T.fill := by
    obtain ⟨c2, r2, m2, q1, q2, q3, q4, -⟩ := Cond.selects_spec (a' (.selects cls Bundle.tFill Bundle.tFill) (by simp [gA]))
    cases Option.some.inj (q1.symm.trans hfound)
    cases Option.some.inj (q2.symm.trans (State.methodFound?_of_named Y.fill (by decide)))
    cases Option.some.inj (q3.symm.trans Y.fill)
    rw [Launch.admits_selectMethod X.admits]; exact q4
  obtain ⟨cellS0, hcS0, hiss⟩ := Y.statics
  obtain ⟨u0, hu0⟩ := Cond.staticRefV Y.unassigned L.unassignedStatic L.statics hcS0 hiss (a' (.isRef (.static Bundle.tN "UNASSIGNED_STACK" Bundle.steD)) (by simp [gA]))
  obtain ⟨sen, hsen⟩ := Cond.staticRefV Y.sentinel L.sentinelStatic L.statics hcS0 hiss (a' (.isRef (.static Bundle.tN "SUPPRESSED_SENTINEL" Bundle.listD)) (by simp [gA]))
  obtain ⟨ci198, i198, fB, hk198, hg198, ha198, hsB, -, hnB, htB, hffB⟩ := Cond.ownField (t := .object "java/lang/Object") Y.found L.cls (by decide +kernel) (a' (.fieldLink Bundle.tN 198 Bundle.tN "backtrace" "Ljava/lang/Object;") (by simp [gA])) (a' (.lays Bundle.tN Bundle.tN "backtrace" "Ljava/lang/Object;") (by simp [gA])) e.platform hpl
  obtain ⟨cellS, hcS', heS, -, hkeep⟩ := X.same.2.2.2.2.2 T.aS cellS0 hcS0
  have hcellS : W.heap[T.aS]? = some cellS := hcS'
  have hout' : ∀ i, (⟨T.aS, i⟩ : Loc) ∉ locs := fun i hmem => by
    have := hlocs _ hmem cellS0 hcS0
    rw [hiss] at this; cases this
  have hknownS : cellS.vm ≠ .unknown := by
    rw [heS]; intro hu
    rw [show cellS0.vm = .unknown from hu] at hiss
    cases hiss
  have hneS : T.aS ≠ a := fun e9 => by
    have h9 := hns cellS0 (by rw [← e9]; exact hcS0)
    rw [hiss] at h9; cases h9
  obtain ⟨iM, hffM⟩ := Y.msg
  obtain ⟨tyC, dC, hdC, hdnC⟩ := Cond.laysAt hfound hk Y.cause (a' (.lays cls Bundle.tN "cause" "Ljava/lang/Throwable;") (by simp [gA]))
  obtain ⟨tyS, dS, hdS, hdnS⟩ := Cond.laysAt hfound hk Y.stack (a' (.lays cls Bundle.tN "stackTrace" Bundle.steD) (by simp [gA]))
  obtain ⟨tyP, dP, hdP, hdnP⟩ := Cond.laysAt hfound hk Y.supp (a' (.lays cls Bundle.tN "suppressedExceptions" Bundle.listD) (by simp [gA]))
  obtain ⟨tyM, dM, hdM, hdnM⟩ := Cond.laysAt hfound hk hffM (a' (.lays cls Bundle.tN "detailMessage" "Ljava/lang/String;") (by simp [gA]))
  obtain ⟨tyB, dB, hdB, hdnB⟩ := Cond.laysAt hfound hk hffB (a' (.lays cls Bundle.tN "backtrace" "Ljava/lang/Object;") (by simp [gA]))
  have bC := Cond.laysApart hdB hdC hdnB hdnC (by rw [hnB, Y.causeName]; decide)
  have bS := Cond.laysApart hdB hdS hdnB hdnS (by rw [hnB, Y.stackName]; decide)
  have bP := Cond.laysApart hdB hdP hdnB hdnP (by rw [hnB, Y.suppName]; decide)
  have hskip : SkipFacts T e.platform s (fun u => u) u0 ((preparedCellV T.toThrowableT (freshCell cX kX) a u0 sen).withEntry W.cur) :=
    ⟨{ ci198 := ci198, i198 := i198, fBack := fB }, ⟨hk198, hg198, ha198, hsB⟩, by
      have := fresh_default (c := cX) tyB
      rw [htB] at this
      simpa [preparedCellV, Cell.setSlot, Cell.withEntry, Array.getElem?_setIfInBounds, bC, bS, bP, bC.symm, bS.symm, bP.symm, defaultValue] using this, fun _ _ => rfl⟩
  obtain ⟨tm, methC, cdC, kC, vm₁, hnC, -, -, -, -, -, -, -, hW₁, st1⟩ := Steps.initColdS (tb := p.tables) (e := e) (below := below) (s := s) (U := W) X.here hexec X.warmed hpl hown (t := Bundle.initS Y1) rfl rfl (Bundle.fit_spec hY1).2
    (a' (.methodLink own ic (Bundle.initS Y1)) (by simp [gA])) (h (.instanceMethod (Bundle.initS Y1)) (by cases names <;> simp [gA, gchain, Bundle.passSAtoms])) (bytes := ry) (maxL := 2) (h (.code (Bundle.initS Y1) ry 2 none) (by cases names <;> simp [gA, gchain, Bundle.passSAtoms]))
    (f := g) hg (a := a) (msg := msg) (rest := rest) hstack hd6
  cases Option.some.inj (hnC.symm.trans hP1m)
  have X₁ := X.noted hW₁
  obtain ⟨vm₂, X₂, st2⟩ := X₁.ctorMessageOffV hexec (g := { g with stack := rest }) hg hsize T L Z LZ M LM (P1 :: Ps)
    (fun P hP => by rcases List.mem_cons.mp hP with rfl | hP; exact L1; exact hL P hP) ⟨hlink1, hlink⟩ (u0 := u0) (sen := sen) (self := a) hmsg (cell := freshCell cX kX) (cellS := cellS)
    hcell (fun _ => by simp) (by simp) rfl rfl hsel0 hselF hcellS hneS hknownS (by rw [hkeep _ (hout' _)]; exact hu0) (by rw [hkeep _ (hout' _)]; exact hsen)
    (Takes.of_laid hk hord tyC (by rw [Y.causeType]; rfl)) (Takes.of_laid hk hord tyS (by rw [Y.stackType]; exact fits_refV_array _ u0)) (Takes.of_laid hk hord tyP (by rw [Y.suppType]; exact fits_refV_object _ sen))
    (Takes.of_laid hk hord tyM (by rw [Y.msgType]; exact fits_refV_object _ ⟨msg, hmsg⟩)) Y.objLocals hskip htr [] hd6
    (by simp only [List.length_cons, hlen]; omega) (by simp only [List.length_cons, hlen]; exact hRlocals)
  have hlt : a < ((W.setVm vm₁).setVm vm₂).heap.size := (Array.getElem?_eq_some_iff.mp hcell).1
  refine ⟨(W.setVm vm₁).setVm vm₂, _, _, X₂, fun y hy => ?_, hlt, rfl, rfl, by simp [plainBareV, preparedCellV, Cell.setSlot, freshCell], fun target hwalk => st1 _ (fun acts => ?_)⟩
  · simp only [List.mem_cons, List.not_mem_nil, or_false] at hy
    rcases hy with rfl | rfl | rfl | rfl | rfl <;> rfl
  · rw [doInvoke_state]
    exact st2 _ hwalk
end XK
/-- the words of gA that don't speak of the heap -/
def gAt (own : String) (ic : Nat) (cls : String) (n : Nat) (Y : String) (iy : Nat) (ry : ByteArray) (names : List String) : List Cond := (gA own ic cls n Y iy ry names).filter vx_no
theorem gA_all {args : Array Value} {s : State} {L : List Cond} (h1 : ∀ w ∈ L.filter vx_no, w.before args s = true) (u1 : (Cond.isRef (.static Bundle.tN "UNASSIGNED_STACK" Bundle.steD)).before args s = true) (u2 : (Cond.isRef (.static Bundle.tN "SUPPRESSED_SENTINEL" Bundle.listD)).before args s = true)
    (u3 : (Cond.laysStatic Bundle.tN "UNASSIGNED_STACK" Bundle.steD).before args s = true) (u4 : (Cond.laysStatic Bundle.tN "SUPPRESSED_SENTINEL" Bundle.listD).before args s = true) : ∀ w ∈ L, w.before args s = true := by
  intro w hw
  by_cases e1 : w = .isRef (.static Bundle.tN "UNASSIGNED_STACK" Bundle.steD)
  · rw [e1]; exact u1
  by_cases e2 : w = .isRef (.static Bundle.tN "SUPPRESSED_SENTINEL" Bundle.listD)
  · rw [e2]; exact u2
  by_cases e3 : w = .laysStatic Bundle.tN "UNASSIGNED_STACK" Bundle.steD
  · rw [e3]; exact u3
  by_cases e4 : w = .laysStatic Bundle.tN "SUPPRESSED_SENTINEL" Bundle.listD
  · rw [e4]; exact u4
  exact h1 w (List.mem_filter.mpr ⟨hw, by simp [vx_no, e1, e2, e3, e4]⟩)
theorem ex_in (L : List Cond) (ps : List Nat) (hp : L = ps.filterMap (fun i => lw_tbl[i]?)) (hg : (L.all fun w => goodWord w || nwOK w) = true) : ∀ w ∈ L, w ∈ lw_all ∨ w ∈ nwl := by
  intro w h
  have h1 := List.all_eq_true.mp hg w h
  rw [hp] at h
  obtain ⟨i, -, hi⟩ := List.mem_filterMap.mp h
  have h2 := List.mem_of_getElem? hi
  cases hb : goodWord w with
  | true => exact Or.inl (lw_g h2 hb)
  | false =>
    rw [hb, Bool.false_or] at h1
    exact Or.inr (nw_in h2 h1)
/-- what the tables say of a site 'throw new E("text")' -/
def exOK (own : String) (ik ic : Nat) (cls : String) (iy : Nat) (ry : ByteArray) (names : List String) : Prop :=
  Bundle.fit cls = true ∧ (∀ n ∈ names, Bundle.fit n = true) ∧ Cond.classLink own ik cls ∈ lw_all ∧ Cond.initialized cls ∈ lw_all ∧ (∀ w ∈ gAt own ic cls 6 cls iy ry names, w ∈ lw_all ∨ w ∈ nwl) ∧ ((Cond.classLink own ik cls :: Cond.initialized cls :: gAt own ic cls 6 cls iy ry names).all vx_ot = true) ∧
  (decode ry 0 = .ok (.aload_n 0, 1) ∧ decode ry 1 = .ok (.aload_n 1, 1) ∧ decode ry 2 = .ok (.invokespecial iy, 3) ∧ decode ry 5 = .ok (.return_, 1))
section GH
variable {p : Program} {l : Launch} {e : Env} {R : Room} {s : State} {m : MethodId} {args : Array Value} {below : List Frame} {meth : Method} {c : Code} {Q : State → Prop} {D : va_G} {dA : Nat → ClassId} {h0 : HH} {nL : Nat} {h h' : HH} {pc : Nat} {L : List (Option Value)} {st : List Value} {cc : ByteArray} {own : String} {hh : List (Nat × Nat × Nat × Nat)}
theorem wd_ok (X : FX p l s m args meth R c cc nL own D dA h0 hh) {w : Cond} (h : w ∈ lw_all ∨ w ∈ nwl) : w.before args s = true := by
  rcases h with h | h
  · exact X.2.2.2.2.1 _ h
  · have hk := (List.mem_filter.mp h).2
    exact va_Nw.use (by cases w <;> first | (cases hk; done) | rfl) (X.2.2.2.2.2.1.2.2.1 _ h)
def newE (h : HH) : Option HH := if hSz h + 1 ≤ hLim h ∧ hSl h + 6 ≤ hSlim h then some (hskip h 6) else none
set_option maxHeartbeats 1000000 in
theorem g_throwS (X : FX p l s m args meth R c cc nL own D dA h0 hh) {cls text : String} {names : List String} {ik is ic iy : Nat} {ry : ByteArray} (hv : newE h = some h') (j : Nat) (hj : fstr[j]? = some (own, is, text)) (ex : exOK own ik ic cls iy ry names)
    (d0 : decode cc pc = .ok (.new ik, 3)) (d3 : decode cc (pc + 3) = .ok (.dup, 1)) (d4 : decode cc (pc + 4) = .ok (.ldc is, 2)) (d6 : decode cc (pc + 6) = .ok (.invokespecial ic, 3)) (d9 : decode cc (pc + 9) = .ok (.athrow, 1))
    (hR : names.length + 3 < R.frames ∧ 8 + (13 * (names.length + 1) + 43) ≤ R.locals) (hw8 : (st.map fun v => v.category).sum ≤ 8) (kk : GX p l e R s m args below meth c Q D dA h0 nL h' (pc + 9) L (hSz h, cls)) : G p l e R s m args below meth c Q D dA h0 nL h pc L st := fun H locs cells slots ls a1 a2 a3 a4 a5 a6 => by
  unfold newE at hv
  split at hv
  rotate_left
  · cases hv
  rename_i hroom
  cases hv
  obtain ⟨hcls, hnames, x3, x4, x5, x6, y0, y1, y2, y5⟩ := ex
  have hts := X.2.2.2.2.1
  have hz := a1.2.1
  have r1 := X.2.2.2.2.2.2.2.2.2.1
  have r2 := X.2.2.2.2.2.2.2.2.2.2.1
  have rs := X.2.2.2.2.2.2.2.2.1
  have hl := X.2.2.2.2.2.2.2.2.2.2.2.1
  have e1' := hLim_eq a2
  have e2' := hSlim_eq a2
  have hstr := X.2.2.2.2.2.1.2.2.2.2.1 j _ hj
  have hgood := fun w hw => List.all_eq_true.mp x6 w hw
  have hat : ∀ w ∈ gAt own ic cls 6 cls iy ry names, w.before args s = true := fun w hw => wd_ok X (x5 w hw)
  have hk := hts _ x3
  have hini := hts _ x4
  have hexec := X.1
  have hown := X.2.2.2.1
  have hU := X.2.2.2.2.2.2.1.2.2.1
  have hN := X.2.2.2.2.2.2.1.2.2.2.1
  intro T hT XS
  have htr : e.platform.stackTraces = false := (show e.platform.stackTraces = l.stackTraces by rw [XS.admits.platform]).trans hl
  have Y := vx_rebase XS (R' := { frames := R.frames, locals := R.locals, cells := 1, slots := 6 }) (Nat.le_refl _) (Nat.le_refl _) (by show cells + 1 ≤ R.cells; omega) (by show slots + 6 ≤ R.slots; omega)
  obtain ⟨s', hA'⟩ : ∃ z, z = (T.setVm s.vm).setFrames (.invoking m args :: below) := ⟨_, rfl⟩
  rw [← hA'] at Y
  have hvm : s'.vm = s.vm := by rw [hA']; rfl
  have hhp : s'.heap = T.heap := by rw [hA']; rfl
  have hW0 : s.WarmedH s'.vm := by rw [hvm]; exact State.WarmedH.refl s
  have hat' : ∀ w ∈ gAt own ic cls 6 cls iy ry names, w.before args s' = true := fun w hw => vx_ot_at hW0 hvm.symm (hgood w (List.mem_cons_of_mem _ (List.mem_cons_of_mem _ hw))) (hat w hw)
  have hk' : (Cond.classLink own ik cls).before args s' = true := vx_ot_at hW0 hvm.symm (hgood _ List.mem_cons_self) hk
  have hini' : (Cond.initialized cls).before args s' = true := vx_ot_at hW0 hvm.symm (hgood _ (List.mem_cons_of_mem _ List.mem_cons_self)) hini
  have hU' : vx_Zq Bundle.tN "UNASSIGNED_STACK" Bundle.steD (fA h0) s' s'.heap := by rw [hhp, hT]; exact vx_Zq.moved hW0.alike (hU.kept a3.2.1)
  have hN' : vx_Zq Bundle.tN "SUPPRESSED_SENTINEL" Bundle.listD (fA h0) s' s'.heap := by rw [hhp, hT]; exact vx_Zq.moved hW0.alike (hN.kept a3.2.1)
  have hh : ∀ w ∈ gA own ic cls 6 cls iy ry names, w.before args s' = true := gA_all hat' (vx_isRefq hU'.1) (vx_isRefq hN'.1) hU'.2.word hN'.2.word
  have hown' : s'.vm.findClass own = some m.cls := by rw [hvm]; exact hown
  have hins : (Cond.instantiable cls 6).before args s' = true := hh _ (by simp [gA])
  obtain ⟨vm₁, cX, kX, hfX, hkX, -, -, X₁, st1⟩ := Y.newCold hexec (own := own) (C := cls) (index := ik) (n := 6) hown' hk' hins hini'
    (g := F0 m pc ls st) rfl (by rw [X.2.1]; exact d0) (Nat.le_refl _) (Nat.le_refl _)
  generalize hT1 : (T.setVm vm₁).pushCell { cls := cX, slots := kX.instanceTypes.map defaultValue, vm := .none } = T1 at X₁ st1
  have hcat : (Value.ref T.heap.size).category = 1 := rfl
  have hcellA : T1.heap[T.heap.size]? = some (freshCell cX kX) := by rw [← hT1]; exact State.heap_pushCell_size _ _
  have d3' : decode c.code (pc + 3) = .ok (.dup, 1) := by rw [X.2.1]; exact d3
  have d4' : decode c.code (pc + 4) = .ok (.ldc is, 2) := by rw [X.2.1]; exact d4
  have hstr' : vk_R own is text (hSa h0 (j + 1)) s' := vk_R.warm hW0 hstr
  obtain ⟨V, ce, L9, Z, hL, hlt, hcl9, hvm9, -, st9⟩ := lx_ctor X₁ hexec htr (own := own) (cls := cls) (Y1 := cls) (names := names) (ic := ic) hown' hcls y0 y1 y2 y5 hnames hh (fun x hx => nomatch hx) hfX hkX hcellA (fun cell hc => by
      have hc' : s'.heap.size ≤ T.heap.size := by rw [hhp]; exact Nat.le_refl _
      rw [Array.getElem?_eq_none hc'] at hc; cases hc) (msg := .ref (hSa h0 (j + 1))) rfl
    (g := { method := m, pc := pc + 6, locals := ls, stack := .ref (hSa h0 (j + 1)) :: .ref T.heap.size :: .ref T.heap.size :: st, locked := none }) rfl (a6.1.trans X.2.2.1.symm) (rest := .ref T.heap.size :: st) rfl
    (by rw [X.2.1]; exact d6) hR.1 (by simp only [List.map_cons, List.sum_cons, hcat]; show 2 * 0 + _ + _ ≤ _; omega)
  have Z0 := Stand.forget (locs := []) Z (fun y hy => by rw [hL y hy, hhp]; exact Nat.le_refl _)
  obtain ⟨f1, f2⟩ := vx_frame Z0.same
  rw [hhp] at f1 f2
  have hcid : s.vm.findClass cls = some ce.cls := by
    rw [hcl9, ← hvm]
    exact hfX
  have hhc : (V.setCell T.heap.size ce).heap[T.heap.size]? = some ce := heapAt_setCell_self (s := V) ce hlt
  subst hA'
  have X5 := vx_back9 XS Y Z0
  have X6 : Stand p l e R s m args below meth c (V.setCell T.heap.size ce) locs (cells + 1) (slots + 6) := { X5 with same := X5.same.mono (by omega) (by omega) }
  rw [hT] at f1 f2 hhc X6 st9
  have hsz : (V.setCell H.size ce).heap.size = H.size + 1 := by
    have h8 := (Array.getElem?_eq_some_iff.mp hhc).1
    have h9 : (V.setCell H.size ce).heap.size ≤ s.heap.size + (cells + 1) := X6.same.2.2.1
    omega
  have hHD : HD D dA (hskip h 6) (V.setCell H.size ce).heap := a1.skip hsz (fun q hq => f2 q hq (fun z hz => nomatch hz)) hroom.1 hroom.2
  have kx := kk (V.setCell H.size ce).heap locs (cells + 1) (slots + 6) ls st ce hHD a2 ⟨Nat.le_trans a3.1 f1, fun q h1 h2 => (f2 q (Nat.lt_of_lt_of_le h1 a3.1) (fun z hz => nomatch hz)).trans (a3.2.1 q h1 h2), a3.2.2⟩ (by show cells + 1 + hSz h0 = hSz h + 1; omega) (by show slots + 6 + hSl h0 = hSl h + 6; omega) a6 (by rw [← hz]; exact hhc) hvm9 hcid
  rw [← hz] at kx
  obtain ⟨t, b1, b2⟩ := vx_athrow X.1 X.2.1 d9 kx _ rfl X6
  refine ⟨t, st1 _ ?_, b2⟩
  show Steps p.tables e below (T1.setTop { method := m, pc := pc + 3, locals := ls, stack := .ref T.heap.size :: st, locked := none }) _
  jvm_step X₁.here [X₁.here.top, hexec, d3', Value.category]
  rw [hT]
  exact X₁.ldcString hexec (own := own) (text := text) (index := is) (a := hSa h0 (j + 1)) hown' hstr'.1 hstr'.2
    (g := { method := m, pc := pc + 4, locals := ls, stack := .ref H.size :: .ref H.size :: st, locked := none }) rfl d4' _ (st9 _ b1)
end GH
