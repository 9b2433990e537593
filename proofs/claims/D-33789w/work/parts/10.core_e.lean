/-! what the printed walks use beside the rows -/
theorem cat_rf (r : Option Nat) : (va_rf r).category = 1 := by cases r <;> rfl
theorem cat_i (i : Int32) : (Value.int i).category = 1 := rfl
theorem cat_j (i : Int64) : (Value.long i).category = 2 := rfl
theorem cat_f (i : UInt32) : (Value.float i).category = 1 := rfl
theorem cat_d (i : UInt64) : (Value.double i).category = 2 := rfl
theorem bndO {α : Type} {x : Option α} {o : α} (h : x = some o) : x = some o := h
def b2 {α β : Type} (x : Option (α × HH)) (f : α → HH → Option β) : Option β := match x with
  | some (v, h) => f v h
  | none => none
theorem b2_some {α β : Type} {x : Option (α × HH)} {f : α → HH → Option β} {o : β} (h : b2 x f = some o) : ∃ v h', x = some (v, h') ∧ f v h' = some o := by
  cases x with
  | none => cases h
  | some q => exact ⟨q.1, q.2, rfl, h⟩
def thr {α β : Type} (x : Option (((Nat × String) ⊕ α) × HH)) (A : Nat × String → HH → Option β) (B : α → HH → Option β) : Option β := match x with
  | some (.inl q, h) => A q h
  | some (.inr v, h) => B v h
  | none => none
theorem thr_some {α β : Type} {x : Option (((Nat × String) ⊕ α) × HH)} {A : Nat × String → HH → Option β} {B : α → HH → Option β} {o : β} (h : thr x A B = some o) : (∃ q h', x = some (.inl q, h') ∧ A q h' = some o) ∨ ∃ v h', x = some (.inr v, h') ∧ B v h' = some o := by
  unfold thr at h
  split at h
  · rename_i q h1
    exact Or.inl ⟨q, h1, rfl, h⟩
  · rename_i v h1
    exact Or.inr ⟨v, h1, rfl, h⟩
  · cases h
def rsI (o : (Nat × String) ⊕ Int32) : (Nat × String) ⊕ Option Value := match o with
  | .inl q => .inl q
  | .inr r => .inr (some (.int r))
def rsJ (o : (Nat × String) ⊕ Int64) : (Nat × String) ⊕ Option Value := match o with
  | .inl q => .inl q
  | .inr r => .inr (some (.long r))
def rsF (o : (Nat × String) ⊕ UInt32) : (Nat × String) ⊕ Option Value := match o with
  | .inl q => .inl q
  | .inr r => .inr (some (.float r))
def rsR (o : (Nat × String) ⊕ Option Nat) : (Nat × String) ⊕ Option Value := match o with
  | .inl q => .inl q
  | .inr r => .inr (some (va_rf r))
def rsV (o : (Nat × String) ⊕ Unit) : (Nat × String) ⊕ Option Value := match o with
  | .inl q => .inl q
  | .inr _ => .inr none
def okZ (x : Int32) : Option Unit := if x = 0 ∨ x = 1 then some () else none
theorem okZ_or {x : Int32} {u : Unit} (h : okZ x = some u) : x = 0 ∨ x = 1 := by
  unfold okZ at h
  split at h
  · assumption
  · cases h
theorem narZ {x : Int32} {u : Unit} (h : okZ x = some u) : narrow .boolean (.int x) = .int x := by
  rcases okZ_or h with rfl | rfl <;> rfl
theorem fitZ {x : Int32} {u : Unit} (h : okZ x = some u) : fits .boolean (.int x) = true := by
  rcases okZ_or h with rfl | rfl <;> rfl
def okB (x : Int32) : Option Unit := if x.toInt8.toInt32 = x then some () else none
theorem okB_eq {x : Int32} {u : Unit} (h : okB x = some u) : x.toInt8.toInt32 = x := by
  unfold okB at h
  split at h
  · assumption
  · cases h
theorem narB {x : Int32} {u : Unit} (h : okB x = some u) : narrow .byte (.int x) = .int x := by
  show Value.int x.toInt8.toInt32 = _
  rw [okB_eq h]
theorem fitB {x : Int32} {u : Unit} (h : okB x = some u) : fits .byte (.int x) = true := by
  have e1 := okB_eq h
  have := pk_fb x
  rw [e1] at this
  exact this
def okC (x : Int32) : Option Unit := if (x.toUInt32 % 65536).toInt32 = x then some () else none
theorem narC {x : Int32} {u : Unit} (h : okC x = some u) : narrow .char (.int x) = .int x := by
  unfold okC at h
  split at h
  · rename_i e1
    have := pk_nc x
    rw [e1] at this
    exact this
  · cases h
def nnl (r : Option Nat) : Option Nat := r
theorem nnl_some {r : Option Nat} {b : Nat} (h : nnl r = some b) : r = some b := h
def fdivP (x y : UInt32) : Option UInt32 := if FP.fdiv x y &&& 0x7fffffff ≤ 0x7f800000 then some (FP.fdiv x y) else none
theorem fdivP_some {x y v : UInt32} (h : fdivP x y = some v) : ∃ _ : vf_n32 (FP.fdiv x y), v = FP.fdiv x y := by
  unfold fdivP at h
  split at h
  · rename_i e1
    exact ⟨e1, (Option.some.inj h).symm⟩
  · cases h
def ddivP (x y : UInt64) : Option UInt64 := if FP.ddiv x y &&& 0x7fffffffffffffff ≤ 0x7ff0000000000000 then some (FP.ddiv x y) else none
theorem ddivP_some {x y v : UInt64} (h : ddivP x y = some v) : ∃ _ : vf_n64 (FP.ddiv x y), v = FP.ddiv x y := by
  unfold ddivP at h
  split at h
  · rename_i e1
    exact ⟨e1, (Option.some.inj h).symm⟩
  · cases h
def castO (h : HH) (ci : Nat) (r : Option Nat) : Option Unit := match r with
  | none => some ()
  | some b => (isO h ci (some b)).map fun _ => ()
def castA (h : HH) (t : Nat) (r : Option Nat) : Option Unit := match r with
  | none => some ()
  | some a => match hF h a with
    | some (.inl (t', _, _)) => if t' = t ∧ hB h ≤ a then some () else none
    | _ => none
/-- 'throw new E("..")' of the JDK's: one cell, of which nothing is kept -/
def newX {α : Type} (h : HH) (E : String) : Option (((Nat × String) ⊕ α) × HH) := if hSz h + 1 ≤ hLim h ∧ hSl h + 6 ≤ hSlim h then some (.inl (hSz h, E), hskip h 6) else none
/-- 'throw r' of an own exception -/
def thrO {α : Type} (h : HH) (r : Option Nat) : Option (((Nat × String) ⊕ α) × HH) := match isO h 7 r with
  | some b => if hB h ≤ b then some (.inl (b, "FerryClocks$Refused"), h) else none
  | none => none
def f2raw (b : UInt32) : Int32 := b.toInt32
def d2raw (b : UInt64) : Int64 := b.toInt64
section GE
variable {p : Program} {l : Launch} {e : Env} {R : Room} {s : State} {m : MethodId} {args : Array Value} {below : List Frame} {meth : Method} {c : Code} {Q : State → Prop} {D : va_G} {dA : Nat → ClassId} {h0 : HH} {nL : Nat} {h h' : HH} {pc : Nat} {L : List (Option Value)} {st : List Value} {cc : ByteArray} {own : String} {hh : List (Nat × Nat × Nat × Nat)}
theorem G.pad (k : Nat) {L' : List (Option Value)} (hL : L ++ List.replicate k none = L') (kk : G p l e R s m args below meth c Q D dA h0 nL h pc L' st) : G p l e R s m args below meth c Q D dA h0 nL h pc L st := fun H locs cells slots ls a1 a2 a3 a4 a5 a6 => kk H locs cells slots ls a1 a2 a3 a4 a5 (a6.mono (fun i v hv => by
  rw [← hL] at hv
  by_cases hi : i < L.length
  · rwa [List.getElem?_append_left hi] at hv
  · rw [List.getElem?_append_right (by omega), List.getElem?_replicate] at hv
    split at hv <;> cases hv))
theorem FXnc (X : FX p l s m args meth R c cc nL own D dA h0 hh) {C T : String} (h : (C, T) ∈ ncl) : va_Nc C T s := X.2.2.2.2.2.1.2.2.2.2.2.2.1 _ h
theorem g_lcmp (X : FX p l s m args meth R c cc nL own D dA h0 hh) {x y : Int64} (d : decode cc pc = .ok (.lcmp, 1)) (k : G p l e R s m args below meth c Q D dA h0 nL h (pc + 1) L (.int (lg_cmp x y) :: st)) : G p l e R s m args below meth c Q D dA h0 nL h pc L (.long y :: .long x :: st) := fun H locs cells slots ls a1 a2 a3 a4 a5 a6 => W.lcmp X.1 X.2.1 d (k H locs cells slots ls a1 a2 a3 a4 a5 a6)
theorem g_getsD (X : FX p l s m args meth R c cc nL own D dA h0 hh) {index : Nat} (hlink : Cond.fieldLink own index "java/util/ArrayList" "DEFAULTCAPACITY_EMPTY_ELEMENTDATA" "[Ljava/lang/Object;" ∈ lw_all) (hz : (1 : Nat) = 1) (d : decode cc pc = .ok (.getstatic index, 3)) (k : G p l e R s m args below meth c Q D dA h0 nL h (pc + 3) L (va_rf (some (hSa h0 0)) :: st)) : G p l e R s m args below meth c Q D dA h0 nL h pc L st := fun H locs cells slots ls a1 a2 a3 a4 a5 a6 => va_gets X.1 X.2.1 X.2.2.2.2.2.2.1.1 a3 X.2.2.2.1 (X.2.2.2.2.1 _ hlink) (fun x q => q) d (k H locs cells slots ls a1 a2 a3 a4 a5 a6)
theorem g_getsC (X : FX p l s m args meth R c cc nL own D dA h0 hh) {index : Nat} (hlink : Cond.fieldLink own index "java/lang/String" "COMPACT_STRINGS" "Z" ∈ lw_all) (hz : (1 : Nat) = 1) (d : decode cc pc = .ok (.getstatic index, 3)) (k : G p l e R s m args below meth c Q D dA h0 nL h (pc + 3) L (.int 1 :: st)) : G p l e R s m args below meth c Q D dA h0 nL h pc L st := fun H locs cells slots ls a1 a2 a3 a4 a5 a6 => va_gets X.1 X.2.1 X.2.2.2.2.2.2.1.2.1 a3 X.2.2.2.1 (X.2.2.2.2.1 _ hlink) (fun x q => q) d (k H locs cells slots ls a1 a2 a3 a4 a5 a6)
theorem g_castO (X : FX p l s m args meth R c cc nL own D dA h0 hh) {index ci : Nat} {r : Option Nat} {u : Unit} {q0 : vw_C} {C : String} (hlink : Cond.classLink own index C ∈ lw_all) (hc : fcl[ci]? = some q0) (hv : castO h ci r = some u) (d : decode cc pc = .ok (.checkcast index, 3)) (k : G p l e R s m args below meth c Q D dA h0 nL h (pc + 3) L (va_rf r :: st)) (hC : q0.1 = C := by rfl) : G p l e R s m args below meth c Q D dA h0 nL h pc L (va_rf r :: st) := fun H locs cells slots ls a1 a2 a3 a4 a5 a6 => by
  cases r with
  | none => exact lv_castN X.1 X.2.1 d (k H locs cells slots ls a1 a2 a3 a4 a5 a6)
  | some b =>
    unfold castO at hv
    simp only [Option.map_eq_some_iff] at hv
    obtain ⟨b', hb, -⟩ := hv
    have hb2 := (isO_some hb).1
    cases hb2
    obtain ⟨cell, q1, q2, q3⟩ := recvC X hc hb a1
    subst hC
    exact va_castS X.1 X.2.1 X.2.2.2.1 (X.2.2.2.2.1 _ hlink) ((X.2.2.2.2.2.1.1 ci _ hc).2) ⟨cell, q1, by cases hvm : cell.vm <;> first | rfl | exact absurd hvm (q2 _), q3⟩ d (k H locs cells slots ls a1 a2 a3 a4 a5 a6)
theorem g_castA (X : FX p l s m args meth R c cc nL own D dA h0 hh) {index t : Nat} {r : Option Nat} {u : Unit} {ty : FieldType} {nm : String} (hlink : Cond.classLink own index nm ∈ lw_all) (ht : ftys[t]? = some ty) (hn : "[" ++ ty.toString = nm) (hv : castA h t r = some u) (d : decode cc pc = .ok (.checkcast index, 3)) (k : G p l e R s m args below meth c Q D dA h0 nL h (pc + 3) L (va_rf r :: st)) : G p l e R s m args below meth c Q D dA h0 nL h pc L (va_rf r :: st) := fun H locs cells slots ls a1 a2 a3 a4 a5 a6 => by
  cases r with
  | none => exact lv_castN X.1 X.2.1 d (k H locs cells slots ls a1 a2 a3 a4 a5 a6)
  | some b =>
    unfold castA at hv
    simp only at hv
    split at hv
    · rename_i t' n v hb
      split at hv
      · rename_i e1
        obtain ⟨e1, hbase⟩ := e1
        subst e1
        have q1 := (a1.1 b _ hb).1 hbase
        have hnm := prim_cls X.2.2.2.2.2.1 ht hn
        intro T hT XS
        obtain ⟨vm', X', st'⟩ := XS.checkcastYes X.1 X.2.2.2.1 (X.2.2.2.2.1 _ hlink) (by rw [hT]; exact q1) rfl hnm (va_asg _ _) (g := F0 m pc ls (va_rf (some b) :: st)) rfl rfl (by rw [X.2.1]; exact d)
        obtain ⟨t, b1, b2⟩ := k H locs cells slots ls a1 a2 a3 a4 a5 a6 (T.setVm vm') hT X'
        exact ⟨t, st' t b1, b2⟩
      · cases hv
    · cases hv
theorem g_athrowR (X : FX p l s m args meth R c cc nL own D dA h0 hh) {r : Option Nat} {α : Type} {o : (Nat × String) ⊕ α} {f : (Nat × String) ⊕ α → (Nat × String) ⊕ Option Value} (hv : thrO h r = some (o, h')) (hout : ∀ x ∈ tableOf hh, covers x pc = false) (d : decode cc pc = .ok (.athrow, 1)) (hf : ∀ q, f (.inl q) = .inl q := by intro q; rfl) : G p l e R s m args below meth c (RQ D dA h0 (f o, h') below s) D dA h0 nL h pc L (va_rf r :: st) := fun H locs cells slots ls a1 a2 a3 a4 a5 a6 => by
  unfold thrO at hv
  split at hv
  · rename_i b hb
    split at hv
    · rename_i hbb
      cases hv
      obtain ⟨rfl, fs, hF1⟩ := isO_some hb
      obtain ⟨r', h1, h2, cell, q1, q2, q3, q4⟩ := (a1.1 b _ hF1).1 hbb
      rw [hf]
      refine vx_athrow X.1 X.2.1 d ?_
      refine gx_out (qE := (b, "FerryClocks$Refused")) X hout H locs cells slots ls st cell a1 a2 a3 a4 a5 a6 q1 q3 ?_
      rw [q2]
      have := (X.2.2.2.2.2.1.1 7 _ h1).2.1
      cases h1
      exact this
    · cases hv
  · cases hv
theorem g_cloneI (X : FX p l s m args meth R c cc nL own D dA h0 hh) {index : Nat} {r : Option Nat} (hlink : Cond.methodLink own index ⟨"[I", "clone", "()Ljava/lang/Object;"⟩ ∈ lw_all) (hR : 1 ≤ R.frames ∧ 24 ≤ R.locals) (hw8 : (st.map fun v => v.category).sum ≤ 8) (hv : cloneA h 0 r = some h') (d : decode cc pc = .ok (.invokevirtual index, 3)) (kk : G p l e R s m args below meth c Q D dA h0 nL h' (pc + 3) L (va_rf (some (hSz h)) :: st)) : G p l e R s m args below meth c Q D dA h0 nL h pc L (va_rf r :: st) := fun H locs cells slots ls a1 a2 a3 a4 a5 a6 => by
  unfold cloneA at hv
  cases r with
  | none => cases hv
  | some a =>
    simp only at hv
    split at hv
    · rename_i t' n f hb
      split at hv
      · rename_i hc
        obtain ⟨e1, hbase, hl1, hl2⟩ := hc
        cases hv
        subst e1
        have hts := X.2.2.2.2.1
        have hcell : H[a]? = some (arrV (dA 0) n (avV (.inl f))) := (a1.1 a _ hb).1 hbase
        have hz := a1.2.1
        have r1 := X.2.2.2.2.2.2.2.2.2.1
        have r2 := X.2.2.2.2.2.2.2.2.2.2.1
        have e1' := hLim_eq a2
        have e2' := hSlim_eq a2
        have hnm : s.vm.findClass "[I" = some (dA 0) := prim_cls (t := 0) X.2.2.2.2.2.1 rfl rfl
        have hA := (X.2.2.2.2.2.1.2.1 0 _ rfl).1
        obtain ⟨c0, t0', f1, f2, f3⟩ := Cond.castable_spec (va_Nw.use (A := args) rfl (X.2.2.2.2.2.1.2.2.1 _ (nw_in q286 rfl)))
        cases hnm.symm.trans f1
        intro T hT XS
        have hcellT : T.heap[a]? = some (arrV (dA 0) n (avV (.inl f))) := by rw [hT]; exact hcell
        obtain ⟨-, kA, hkA, comp, hkind⟩ := State.isArrayOf_alike XS.warmed.alike (hA 0 (fun _ => .null))
        obtain ⟨-, kS, hkS, compS, hkindS⟩ := hA 0 (fun _ => .null)
        have hsz : (arrV (dA 0) n (avV (.inl f))).slots.size = n := arrV_size _ _ _
        have hfits : ∀ (i : Nat) (w : Value), (arrV (dA 0) n (avV (.inl f))).slots[i]? = some w → fits .int w = true := by
          intro i w hw
          by_cases hi : i < n
          · rw [arrV_read _ _ hi] at hw
            cases hw
            rfl
          · rw [Array.getElem?_eq_none (by rw [arrV_size]; omega)] at hw
            cases hw
        obtain ⟨vm', X', st'⟩ := XS.cloneArray X.1 X.2.2.2.1 (hts _ hlink) (hts _ q282) (hts _ q283) (hts _ q284) (hts _ q285) (a := a) (cell := arrV (dA 0) n (avV (.inl f))) hcellT (fun k z => by cases z) (fun z => by cases z) hnm f2 f3
          (fun i w hw => by
            have hk' : T.vm.classes[dA 0]? = some kA := hkA
            have := hfits i w hw
            simpa [State.fitsSlot, State.slotType?, hk', hkind, arrV] using this)
          (g := F0 m pc ls (va_rf (some a) :: st)) rfl (a6.1.trans X.2.2.1.symm) rfl (by rw [X.2.1]; exact d) hR.1 (by show 2 * 0 + _ + 14 ≤ _; omega) (by omega) (by rw [hsz]; omega) (hloader := Vm.clonesLoader_of_array hkS hkindS)
        rw [hsz] at X'
        generalize hH1 : H.push (arrV (dA 0) n (avV (.inl f))) = H1
        have z1 : H1.size = H.size + 1 := by rw [← hH1, Array.size_push]
        have e1 : H1[H.size]? = some (arrV (dA 0) n (avV (.inl f))) := by rw [← hH1, Array.getElem?_push_size]
        have o1 : ∀ q : Nat, q < H.size → H1[q]? = H[q]? := fun q hq => by rw [← hH1, Array.getElem?_push, if_neg (Nat.ne_of_lt hq)]
        obtain ⟨t, b1, b2⟩ := kk H1 locs (cells + 1) (slots + n) ls (a1.push z1 o1 e1 hl1 hl2) a2 ⟨Nat.le_trans a3.1 (by omega), fun x h1 h2 => (o1 x (Nat.lt_of_lt_of_le h1 a3.1)).trans (a3.2.1 x h1 h2), a3.2.2⟩ (by show cells + 1 + hSz h0 = hSz h + 1; omega) (by show slots + n + hSl h0 = hSl h + n; omega) a6 ((T.setVm vm').pushCell (arrV (dA 0) n (avV (.inl f)))) (by rw [← hH1, ← hT]; rfl) X'
        refine ⟨t, st' t ?_, b2⟩
        rw [hT, hz]
        exact b1
      · cases hv
    · cases hv
theorem g_f2raw (X : FX p l s m args meth R c cc nL own D dA h0 hh) {index : Nat} {b : UInt32} (hlink : Cond.methodLink own index ⟨"java/lang/Float", "floatToRawIntBits", "(F)I"⟩ ∈ lw_all) (hR : 1 ≤ R.frames ∧ 23 ≤ R.locals) (hw8 : (st.map fun v => v.category).sum ≤ 8) (d : decode cc pc = .ok (.invokestatic index, 3)) (k : G p l e R s m args below meth c Q D dA h0 nL h (pc + 3) L (.int (f2raw b) :: st)) : G p l e R s m args below meth c Q D dA h0 nL h pc L (.float b :: st) := fun H locs cells slots ls a1 a2 a3 a4 a5 a6 =>
  vn_f2i X.1 X.2.1 (X.2.2.1.trans a6.1.symm) X.2.2.2.1 (X.2.2.2.2.1 _ hlink) (X.2.2.2.2.1 _ q897) (X.2.2.2.2.1 _ q896) (X.2.2.2.2.1 _ q120) hR.1 (by omega) d (k H locs cells slots ls a1 a2 a3 a4 a5 a6)
theorem g_d2raw (X : FX p l s m args meth R c cc nL own D dA h0 hh) {index : Nat} {b : UInt64} (hlink : Cond.methodLink own index ⟨"java/lang/Double", "doubleToRawLongBits", "(D)J"⟩ ∈ lw_all) (hR : 1 ≤ R.frames ∧ 23 ≤ R.locals) (hw8 : (st.map fun v => v.category).sum ≤ 8) (d : decode cc pc = .ok (.invokestatic index, 3)) (k : G p l e R s m args below meth c Q D dA h0 nL h (pc + 3) L (.long (d2raw b) :: st)) : G p l e R s m args below meth c Q D dA h0 nL h pc L (.double b :: st) := fun H locs cells slots ls a1 a2 a3 a4 a5 a6 =>
  vn_d2l X.1 X.2.1 (X.2.2.1.trans a6.1.symm) X.2.2.2.1 (X.2.2.2.2.1 _ hlink) (X.2.2.2.2.1 _ q1531) (X.2.2.2.2.1 _ q1530) (X.2.2.2.2.1 _ q121) hR.1 (by omega) d (k H locs cells slots ls a1 a2 a3 a4 a5 a6)
end GE
theorem sw_ne {x : Int32} {k : Int} {v : Int32} (h : ¬ x = v) (hk : v.toInt = k) : ¬ x.toInt = k := fun q => h (Int32.toInt_inj.mp (by rw [hk]; exact q))
theorem sw_range (x : Int32) (lo hi : Int) : (x.toInt < lo ∨ hi < x.toInt) ∨ (¬ x.toInt < lo ∧ ¬ hi < x.toInt) := by omega
