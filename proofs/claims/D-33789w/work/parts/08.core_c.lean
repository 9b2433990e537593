/-! rows that read and write the heap -/
theorem getV_some {h : HH} {ci k : Nat} {r : Option Nat} {v : Value} (hv : getV h ci k r = some v) : ∃ a fs, r = some a ∧ hF h a = some (.inr (ci, fs)) ∧ fs[k]? = some v := by
  unfold getV at hv
  cases r with
  | none => cases hv
  | some a =>
    simp only at hv
    split at hv
    · rename_i c fs hc
      split at hv
      · rename_i e
        subst e
        exact ⟨a, fs, rfl, hc, hv⟩
      · cases hv
    · cases hv
theorem getI_V {h : HH} {ci k : Nat} {r : Option Nat} {x : Int32} (hv : getI h ci k r = some x) : getV h ci k r = some (.int x) := by
  unfold getI at hv
  split at hv
  · rename_i y hy
    cases hv
    exact hy
  · cases hv
theorem getJ_V {h : HH} {ci k : Nat} {r : Option Nat} {x : Int64} (hv : getJ h ci k r = some x) : getV h ci k r = some (.long x) := by
  unfold getJ at hv
  split at hv
  · rename_i y hy
    cases hv
    exact hy
  · cases hv
theorem getR_V {h : HH} {ci k : Nat} {r x : Option Nat} (hv : getR h ci k r = some x) : getV h ci k r = some (va_rf x) := by
  unfold getR at hv
  split at hv
  · rename_i y hy
    cases hv
    exact hy
  · rename_i hy
    cases hv
    exact hy
  · cases hv
theorem putV_some {h h' : HH} {ci k : Nat} {r : Option Nat} {v : Value} (hv : putV h ci k r v = some h') : ∃ a fs, r = some a ∧ hF h a = some (.inr (ci, fs)) ∧ k < fs.length ∧ hB h ≤ a ∧ h' = hset h a (.inr (ci, fs.set k v)) := by
  unfold putV at hv
  cases r with
  | none => cases hv
  | some a =>
    simp only at hv
    split at hv
    · rename_i c fs hc
      split at hv
      · rename_i e
        obtain ⟨e1, e2, e3⟩ := e
        subst e1
        exact ⟨a, fs, rfl, hc, e2, e3, (Option.some.inj hv).symm⟩
      · cases hv
    · cases hv
theorem aget_some {h : HH} {t : Nat} {r : Option Nat} {i : Int32} {q : Nat × Nat × AV} (hv : aget h t r i = some q) : r = some q.1 ∧ hF h q.1 = some (.inl (t, q.2.1, q.2.2)) ∧ vp_in i q.2.1 := by
  unfold aget at hv
  cases r with
  | none => cases hv
  | some a =>
    simp only at hv
    split at hv
    · rename_i t' n v hc
      split at hv
      · rename_i e
        obtain ⟨e1, e2⟩ := e
        cases hv
        subst e1
        exact ⟨rfl, hc, e2⟩
      · cases hv
    · cases hv
theorem aldI_some {h : HH} {t : Nat} {r : Option Nat} {i x : Int32} (hv : aldI h t r i = some x) : ∃ a n f, r = some a ∧ hF h a = some (.inl (t, n, .inl f)) ∧ vp_in i n ∧ x = f i.toNatClampNeg := by
  unfold aldI at hv
  split at hv
  · rename_i a n f hq
    cases hv
    obtain ⟨q1, q2, q3⟩ := aget_some hq
    exact ⟨a, n, f, q1, q2, q3, rfl⟩
  · cases hv
theorem aldJ_some {h : HH} {t : Nat} {r : Option Nat} {i : Int32} {x : Int64} (hv : aldJ h t r i = some x) : ∃ a n f, r = some a ∧ hF h a = some (.inl (t, n, .inr (.inl f))) ∧ vp_in i n ∧ x = f i.toNatClampNeg := by
  unfold aldJ at hv
  split at hv
  · rename_i a n f hq
    cases hv
    obtain ⟨q1, q2, q3⟩ := aget_some hq
    exact ⟨a, n, f, q1, q2, q3, rfl⟩
  · cases hv
theorem aldR_some {h : HH} {t : Nat} {r : Option Nat} {i : Int32} {x : Option Nat} (hv : aldR h t r i = some x) : ∃ a n f, r = some a ∧ hF h a = some (.inl (t, n, .inr (.inr f))) ∧ vp_in i n ∧ x = f i.toNatClampNeg := by
  unfold aldR at hv
  split at hv
  · rename_i a n f hq
    cases hv
    obtain ⟨q1, q2, q3⟩ := aget_some hq
    exact ⟨a, n, f, q1, q2, q3, rfl⟩
  · cases hv
theorem alen_some {h : HH} {r : Option Nat} {x : Int32} (hv : alen h r = some x) : ∃ a t n v, r = some a ∧ hF h a = some (.inl (t, n, v)) ∧ t < 5 ∧ x = Int32.ofNat n := by
  unfold alen at hv
  cases r with
  | none => cases hv
  | some a =>
    simp only at hv
    split at hv
    · rename_i t n v hc
      split at hv
      · rename_i ht
        cases hv
        exact ⟨a, t, n, v, rfl, hc, ht, rfl⟩
      · cases hv
    · cases hv
theorem astI_some {h h' : HH} {r : Option Nat} {i x : Int32} (hv : astI h r i x = some h') : ∃ a n f, r = some a ∧ hF h a = some (.inl (0, n, .inl f)) ∧ vp_in i n ∧ hB h ≤ a ∧ h' = hset h a (.inl (0, n, .inl (upd f i.toNatClampNeg x))) := by
  unfold astI at hv
  split at hv
  · rename_i a n f hq
    split at hv
    · rename_i hb
      obtain ⟨q1, q2, q3⟩ := aget_some hq
      exact ⟨a, n, f, q1, q2, q3, hb, (Option.some.inj hv).symm⟩
    · cases hv
  · cases hv
theorem astB_some {h h' : HH} {r : Option Nat} {i x : Int32} (hv : astB h r i x = some h') : ∃ a n f, r = some a ∧ hF h a = some (.inl (1, n, .inl f)) ∧ vp_in i n ∧ hB h ≤ a ∧ h' = hset h a (.inl (1, n, .inl (upd f i.toNatClampNeg x.toInt8.toInt32))) := by
  unfold astB at hv
  split at hv
  · rename_i a n f hq
    split at hv
    · rename_i hb
      obtain ⟨q1, q2, q3⟩ := aget_some hq
      exact ⟨a, n, f, q1, q2, q3, hb, (Option.some.inj hv).symm⟩
    · cases hv
  · cases hv
theorem astJ_some {h h' : HH} {r : Option Nat} {i : Int32} {x : Int64} (hv : astJ h r i x = some h') : ∃ a n f, r = some a ∧ hF h a = some (.inl (4, n, .inr (.inl f))) ∧ vp_in i n ∧ hB h ≤ a ∧ h' = hset h a (.inl (4, n, .inr (.inl (vp_updL f i.toNatClampNeg x)))) := by
  unfold astJ at hv
  split at hv
  · rename_i a n f hq
    split at hv
    · rename_i hb
      obtain ⟨q1, q2, q3⟩ := aget_some hq
      exact ⟨a, n, f, q1, q2, q3, hb, (Option.some.inj hv).symm⟩
    · cases hv
  · cases hv
theorem astR_some {h h' : HH} {t : Nat} {r v : Option Nat} {i : Int32} (hv : astR h t r i v = some h') : ∃ a n f, r = some a ∧ hF h a = some (.inl (t, n, .inr (.inr f))) ∧ vp_in i n ∧ hB h ≤ a ∧ okstH h t v = true ∧ (t = 2 ∨ t = 3) ∧ h' = hset h a (.inl (t, n, .inr (.inr (va_up f i.toNatClampNeg v)))) := by
  unfold astR at hv
  split at hv
  · rename_i a n f hq
    split at hv
    · rename_i hb
      obtain ⟨q1, q2, q3⟩ := aget_some hq
      exact ⟨a, n, f, q1, q2, q3, hb.1, hb.2.1, hb.2.2, (Option.some.inj hv).symm⟩
    · cases hv
  · cases hv
theorem arrOfC {s : State} {cA : ClassId} {ty : FieldType} {cell : Cell} (h : ArrOfT s cA ty) (hc : cell.cls = cA) (hv : ∀ k, cell.vm ≠ .statics k) : s.isArrayOf cell ty := by
  obtain ⟨-, k, hk, comp, hkind⟩ := h 0 (fun _ => .null)
  exact ⟨hv, k, by rw [hc]; exact hk, comp, hkind⟩
theorem arrOfW {s : State} {D : va_G} {dA : Nat → ClassId} {hz : HH} (hK : KD D dA hz s) {t : Nat} {ty : FieldType} (ht : ftys[t]? = some ty) {cell : Cell} (hc : cell.cls = dA t ∨ (t = 0 ∧ cell.cls = dA 5)) (hv : ∀ k, cell.vm ≠ .statics k) : s.isArrayOf cell ty := by
  rcases hc with h | ⟨rfl, h⟩
  · exact arrOfC (hK.2.1 t ty ht).1 h hv
  · have e : ty = .int := Option.some.inj (ht.symm.trans rfl)
    subst e
    exact arrOfC hK.2.2.2.2.2.2.2 h hv
theorem avV_upd (f : Nat → Int32) (k : Nat) (x : Int32) : updV (avV (.inl f)) k (.int x) = avV (.inl (upd f k x)) := by
  funext q
  by_cases hq : q = k
  · subst hq; simp [updV, upd, avV]
  · simp [updV, upd, avV, hq]
theorem avV_updL (f : Nat → Int64) (k : Nat) (x : Int64) : updV (avV (.inr (.inl f))) k (.long x) = avV (.inr (.inl (vp_updL f k x))) := by
  funext q
  by_cases hq : q = k
  · subst hq; simp [updV, vp_updL, avV]
  · simp [updV, vp_updL, avV, hq]
theorem avV_updR (f : Nat → Option Nat) (k : Nat) (x : Option Nat) : updV (avV (.inr (.inr f))) k (va_rf x) = avV (.inr (.inr (va_up f k x))) := by
  funext q
  by_cases hq : q = k
  · subst hq; simp [updV, va_up, avV]
  · simp [updV, va_up, avV, hq]
theorem narrow_rf (C : String) (r : Option Nat) : narrow (.object C) (va_rf r) = va_rf r := by cases r <;> rfl
theorem fits_rf (C : String) (r : Option Nat) : fits (.object C) (va_rf r) = true := by cases r <;> rfl
theorem narrow_rfA (t : FieldType) (r : Option Nat) : narrow (.array t) (va_rf r) = va_rf r := by cases r <;> rfl
theorem fits_rfA (t : FieldType) (r : Option Nat) : fits (.array t) (va_rf r) = true := by cases r <;> rfl
section GH
variable {p : Program} {l : Launch} {e : Env} {R : Room} {s : State} {m : MethodId} {args : Array Value} {below : List Frame} {meth : Method} {c : Code} {Q : State → Prop} {D : va_G} {dA : Nat → ClassId} {h0 : HH} {nL : Nat} {h h' : HH} {pc : Nat} {L : List (Option Value)} {st : List Value} {cc : ByteArray} {own : String} {hh : List (Nat × Nat × Nat × Nat)}
theorem fsame (X : FX p l s m args meth R c cc nL own D dA h0 hh) {ref o n d : String} (hs : ref = o ∨ Cond.sameField ref o n d ∈ lw_all) : ∀ x, s.fieldFound? o n d = some x → s.fieldFound? ref n d = some x := by
  rcases hs with hs | hs
  · subst hs; exact fun x q => q
  · exact u_same (X.2.2.2.2.1 _ hs)
theorem hB_eq {h h0 : HH} (e : h.1 = h0.1) : hB h = hB h0 := by unfold hB; rw [e]
theorem hLim_eq {h h0 : HH} (e : h.1 = h0.1) : hLim h = hLim h0 := by unfold hLim; rw [e]
theorem hSlim_eq {h h0 : HH} (e : h.1 = h0.1) : hSlim h = hSlim h0 := by unfold hSlim; rw [e]
theorem g_get (X : FX p l s m args meth R c cc nL own D dA h0 hh) {ref C : String} {T : u_T} {N ci index k : Nat} {r : Option Nat} {v : Value} (hin : ∀ w ∈ u_ws C T N, w ∈ lw_all) (hc : fcl[ci]? = some (C, T, N)) (hk : k < N) (hlink : Cond.fieldLink own index ref (T k).2.1 (T k).2.2.1 ∈ lw_all) (hs : ref = (T k).1 ∨ Cond.sameField ref (T k).1 (T k).2.1 (T k).2.2.1 ∈ lw_all) (hv : getV h ci k r = some v) (d : decode cc pc = .ok (.getfield index, 3)) (kk : G p l e R s m args below meth c Q D dA h0 nL h (pc + 3) L (v :: st)) : G p l e R s m args below meth c Q D dA h0 nL h pc L (va_rf r :: st) := fun H locs cells slots ls a1 a2 a3 a4 a5 a6 => by
  obtain ⟨a, fs, rfl, ha, hfs⟩ := getV_some hv
  obtain ⟨r', h1, h2, cell, q1, q2, q3, q4, q5⟩ := (a1.1 a _ ha).2
  have hr : r' = (C, T, N) := Option.some.inj (h1.symm.trans hc)
  subst hr
  have hts := X.2.2.2.2.1
  obtain ⟨hS, hfc, kC, hkC, hkind⟩ := X.2.2.2.2.2.1.1 ci _ hc
  obtain ⟨cf, kf, fi, f, hi, hsl⟩ := hS k hk
  refine W.getf X.1 X.2.1 X.2.2.2.1 (hts _ hlink) (fsame X hs _ hi) (u_facts hfc hkC (u_lays hts hin hk) hi).1 q1 q3 (v := v) ?_ rfl rfl d (kk H locs cells slots ls a1 a2 a3 a4 a5 a6)
  rw [hsl, q5 k hk]
  simp [vp_V, hfs]
theorem g_getN (X : FX p l s m args meth R c cc nL own D dA h0 hh) {ref C host : String} {T : u_T} {N ci index k : Nat} {r : Option Nat} {v : Value} (hin : ∀ w ∈ u_ws C T N, w ∈ lw_all) (hc : fcl[ci]? = some (C, T, N)) (hk : k < N) (hlink : Cond.fieldLinkNest own index ref (T k).2.1 (T k).2.2.1 host ∈ nwl) (hs : ref = (T k).1) (hv : getV h ci k r = some v) (d : decode cc pc = .ok (.getfield index, 3)) (kk : G p l e R s m args below meth c Q D dA h0 nL h (pc + 3) L (v :: st)) : G p l e R s m args below meth c Q D dA h0 nL h pc L (va_rf r :: st) := fun H locs cells slots ls a1 a2 a3 a4 a5 a6 => by
  obtain ⟨a, fs, rfl, ha, hfs⟩ := getV_some hv
  obtain ⟨r', h1, h2, cell, q1, q2, q3, q4, q5⟩ := (a1.1 a _ ha).2
  have hr : r' = (C, T, N) := Option.some.inj (h1.symm.trans hc)
  subst hr
  have hts := X.2.2.2.2.1
  obtain ⟨hS, hfc, kC, hkC, hkind⟩ := X.2.2.2.2.2.1.1 ci _ hc
  obtain ⟨cf, kf, fi, f, hi, hsl⟩ := hS k hk
  refine va_Wgetf X.1 X.2.1 X.2.2.2.1 (va_Nw.use rfl (X.2.2.2.2.2.1.2.2.1 _ hlink)) (fsame X (Or.inl hs) _ hi) (u_facts hfc hkC (u_lays hts hin hk) hi).1 q1 q3 (v := v) ?_ rfl rfl d (kk H locs cells slots ls a1 a2 a3 a4 a5 a6)
  rw [hsl, q5 k hk]
  simp [vp_V, hfs]
theorem g_put (X : FX p l s m args meth R c cc nL own D dA h0 hh) {ref C : String} {T : u_T} {N ci index k : Nat} {r : Option Nat} {v : Value} (hin : ∀ w ∈ u_ws C T N, w ∈ lw_all) (ty0 : Nat → FieldType) (hty : ∀ k, k < N → parseFieldDescriptor (T k).2.2.1 = some (ty0 k)) (hnm : ∀ a, a < N → ∀ b, b < N → a ≠ b → (T a).2.1 ≠ (T b).2.1) (hc : fcl[ci]? = some (C, T, N)) (hk : k < N) (hlink : Cond.fieldLink own index ref (T k).2.1 (T k).2.2.1 ∈ lw_all) (hs : ref = (T k).1 ∨ Cond.sameField ref (T k).1 (T k).2.1 (T k).2.2.1 ∈ lw_all) (hfin : (T k).2.2.2 = false) {ty : FieldType} (hd : parseFieldDescriptor (T k).2.2.1 = some ty) (hn : narrow ty v = v) (hfit : fits ty v = true) (hv : putV h ci k r v = some h') (d : decode cc pc = .ok (.putfield index, 3)) (kk : G p l e R s m args below meth c Q D dA h0 nL h' (pc + 3) L st) : G p l e R s m args below meth c Q D dA h0 nL h pc L (v :: va_rf r :: st) := fun H locs cells slots ls a1 a2 a3 a4 a5 a6 => by
  obtain ⟨a, fs, rfl, ha, hl, hb, rfl⟩ := putV_some hv
  obtain ⟨r', h1, h2, cell, q1, q2, q3, q4⟩ := (a1.1 a _ ha).1 hb
  have hr : r' = (C, T, N) := Option.some.inj (h1.symm.trans hc)
  subst hr
  have hts := X.2.2.2.2.1
  have hK : va_K D fcl [] s := ⟨X.2.2.2.2.2.1.1, fun k q hk => by simp at hk⟩
  have hap := va_apart (own := own) hts hin ty0 hty hnm hK hc
  obtain ⟨hS, hfc, kC, hkC, hkind⟩ := X.2.2.2.2.2.1.1 ci _ hc
  obtain ⟨cf, kf, fi, f, hi, hsl⟩ := hS k hk
  have hlay := hts _ (hin _ (u_in_lay hk))
  unfold u_lay at hlay
  rw [if_neg (by rw [hfin]; decide)] at hlay
  have hst := (u_facts hfc hkC (u_lays hts hin hk) hi).1
  have h6 := u_store hfc hkC hkind hlay hi hd hn hfit
  refine W.putK X.1 X.2.1 (f := f) ⟨X.2.2.2.1, hts _ hlink, ⟨_, _, _, fsame X hs _ hi⟩, hst⟩ (by rw [q2]; exact h6) q1 q3 (by rw [hsl]; exact k2_hasslot (q4 k hk)) rfl rfl d fun H' e1 e2 e3 => ?_
  rw [hsl] at e1 ⊢
  refine kk H' _ cells slots ls (a1.set e2 e3 ⟨_, hc, by rw [List.length_set]; exact h2, t_OB.to (V := updV (vp_V fs) k v) ⟨_, e1, q2, q3, t_set q4 hap hk v⟩ (fun j _ => vp_updV_set hl v j)⟩) a2 (a3.put e2 e3 (show hB h0 ≤ a by rw [← hB_eq a2]; exact hb)) a4 a5 a6
theorem g_putN (X : FX p l s m args meth R c cc nL own D dA h0 hh) {ref C host : String} {T : u_T} {N ci index k : Nat} {r : Option Nat} {v : Value} (hin : ∀ w ∈ u_ws C T N, w ∈ lw_all) (ty0 : Nat → FieldType) (hty : ∀ k, k < N → parseFieldDescriptor (T k).2.2.1 = some (ty0 k)) (hnm : ∀ a, a < N → ∀ b, b < N → a ≠ b → (T a).2.1 ≠ (T b).2.1) (hc : fcl[ci]? = some (C, T, N)) (hk : k < N) (hlink : Cond.fieldLinkNest own index ref (T k).2.1 (T k).2.2.1 host ∈ nwl) (hs : ref = (T k).1) (hfin : (T k).2.2.2 = false) {ty : FieldType} (hd : parseFieldDescriptor (T k).2.2.1 = some ty) (hn : narrow ty v = v) (hfit : fits ty v = true) (hv : putV h ci k r v = some h') (d : decode cc pc = .ok (.putfield index, 3)) (kk : G p l e R s m args below meth c Q D dA h0 nL h' (pc + 3) L st) : G p l e R s m args below meth c Q D dA h0 nL h pc L (v :: va_rf r :: st) := fun H locs cells slots ls a1 a2 a3 a4 a5 a6 => by
  obtain ⟨a, fs, rfl, ha, hl, hb, rfl⟩ := putV_some hv
  obtain ⟨r', h1, h2, cell, q1, q2, q3, q4⟩ := (a1.1 a _ ha).1 hb
  have hr : r' = (C, T, N) := Option.some.inj (h1.symm.trans hc)
  subst hr
  have hts := X.2.2.2.2.1
  have hK : va_K D fcl [] s := ⟨X.2.2.2.2.2.1.1, fun k q hk => by simp at hk⟩
  have hap := va_apart (own := own) hts hin ty0 hty hnm hK hc
  obtain ⟨hS, hfc, kC, hkC, hkind⟩ := X.2.2.2.2.2.1.1 ci _ hc
  obtain ⟨cf, kf, fi, f, hi, hsl⟩ := hS k hk
  have hlay := hts _ (hin _ (u_in_lay hk))
  unfold u_lay at hlay
  rw [if_neg (by rw [hfin]; decide)] at hlay
  have hst := (u_facts hfc hkC (u_lays hts hin hk) hi).1
  have h6 := u_store hfc hkC hkind hlay hi hd hn hfit
  refine va_WputK X.1 X.2.1 (f := f) X.2.2.2.1 (va_Nw.use rfl (X.2.2.2.2.2.1.2.2.1 _ hlink)) (fsame X (Or.inl hs) _ hi) hst (by rw [q2]; exact h6) q1 q3 (by rw [hsl]; exact k2_hasslot (q4 k hk)) rfl rfl d fun H' e1 e2 e3 => ?_
  rw [hsl] at e1 ⊢
  refine kk H' _ cells slots ls (a1.set e2 e3 ⟨_, hc, by rw [List.length_set]; exact h2, t_OB.to (V := updV (vp_V fs) k v) ⟨_, e1, q2, q3, t_set q4 hap hk v⟩ (fun j _ => vp_updV_set hl v j)⟩) a2 (a3.put e2 e3 (show hB h0 ≤ a by rw [← hB_eq a2]; exact hb)) a4 a5 a6
theorem g_putF (X : FX p l s m args meth R c cc nL own D dA h0 hh) {ref C : String} {T : u_T} {N ci index k : Nat} {r : Option Nat} {v : Value} (hin : ∀ w ∈ u_ws C T N, w ∈ lw_all) (ty0 : Nat → FieldType) (hty : ∀ k, k < N → parseFieldDescriptor (T k).2.2.1 = some (ty0 k)) (hnm : ∀ a, a < N → ∀ b, b < N → a ≠ b → (T a).2.1 ≠ (T b).2.1) (hc : fcl[ci]? = some (C, T, N)) (hk : k < N) (hlink : Cond.fieldLink own index ref (T k).2.1 (T k).2.2.1 ∈ lw_all) (hs : ref = (T k).1) (hfin : (T k).2.2.2 = true) (hin2 : meth.name = "<init>") (hdecl : (T k).1 = own) {ty : FieldType} (hd : parseFieldDescriptor (T k).2.2.1 = some ty) (hn : narrow ty v = v) (hfit : fits ty v = true) (hv : putV h ci k r v = some h') (d : decode cc pc = .ok (.putfield index, 3)) (kk : G p l e R s m args below meth c Q D dA h0 nL h' (pc + 3) L st) : G p l e R s m args below meth c Q D dA h0 nL h pc L (v :: va_rf r :: st) := fun H locs cells slots ls a1 a2 a3 a4 a5 a6 => by
  obtain ⟨a, fs, rfl, ha, hl, hb, rfl⟩ := putV_some hv
  obtain ⟨r', h1, h2, cell, q1, q2, q3, q4⟩ := (a1.1 a _ ha).1 hb
  have hr : r' = (C, T, N) := Option.some.inj (h1.symm.trans hc)
  subst hr
  have hts := X.2.2.2.2.1
  have hown := X.2.2.2.1
  have hK : va_K D fcl [] s := ⟨X.2.2.2.2.2.1.1, fun k q hk => by simp at hk⟩
  have hap := va_apart (own := own) hts hin ty0 hty hnm hK hc
  obtain ⟨hS, hfc, kC, hkC, hkind⟩ := X.2.2.2.2.2.1.1 ci _ hc
  obtain ⟨cf, kf, fi, f, hi, hsl⟩ := hS k hk
  have hlay := hts _ (hin _ (u_in_lay hk))
  unfold u_lay at hlay
  rw [if_pos hfin] at hlay
  have hst := (u_facts hfc hkC (u_lays hts hin hk) hi).1
  have hcf : m.cls = cf := by
    obtain ⟨_, _, c', _, _, _, -, -, hf', -, -, -, hown2, -⟩ := Cond.laysFinal_spec hlay
    have e1 : c' = cf := by have := hi.symm.trans hf'; simp at this; exact this.1.symm
    rw [hdecl] at hown2
    rw [← e1]; exact Option.some.inj (hown.symm.trans hown2)
  have h6 := u_fits hfc hkC hkind (Or.inr hlay) hi hd hn hfit
  refine W.putFinK X.1 X.2.1 hown (hts _ hlink) (fsame X (Or.inl hs) _ hi) hst hcf hin2 (by rw [q2]; exact h6) q1 q3 (by rw [hsl]; exact k2_hasslot (q4 k hk)) rfl rfl d fun H' e1 e2 e3 => ?_
  rw [hsl] at e1 ⊢
  refine kk H' _ cells slots ls (a1.set e2 e3 ⟨_, hc, by rw [List.length_set]; exact h2, t_OB.to (V := updV (vp_V fs) k v) ⟨_, e1, q2, q3, t_set q4 hap hk v⟩ (fun j _ => vp_updV_set hl v j)⟩) a2 (a3.put e2 e3 (show hB h0 ≤ a by rw [← hB_eq a2]; exact hb)) a4 a5 a6
theorem g_iald (X : FX p l s m args meth R c cc nL own D dA h0 hh) {r : Option Nat} {i x : Int32} (hv : aldI h 0 r i = some x) (d : decode cc pc = .ok (.iaload, 1)) (kk : G p l e R s m args below meth c Q D dA h0 nL h (pc + 1) L (.int x :: st)) : G p l e R s m args below meth c Q D dA h0 nL h pc L (.int i :: va_rf r :: st) := fun H locs cells slots ls a1 a2 a3 a4 a5 a6 => by
  obtain ⟨a, n, f, rfl, ha, hin, rfl⟩ := aldI_some hv
  obtain ⟨cell, q1, q2, q3, q4, q5, q6, q7⟩ := (a1.1 a _ ha).2
  have hlt : i.toNatClampNeg < n := Nat.not_le.mp fun q => hin (Or.inr q)
  exact W.iald (v := .int (f i.toNatClampNeg)) X.1 X.2.1 q1 (arrOfW X.2.2.2.2.2.1 (t := 0) rfl q2 q4) q3 (fun q => hin (q.imp id (fun z => Nat.le_trans q5 z))) (q7 _ hlt) rfl rfl d (kk H locs cells slots ls a1 a2 a3 a4 a5 a6)
theorem g_bald (X : FX p l s m args meth R c cc nL own D dA h0 hh) {r : Option Nat} {i x : Int32} (hv : aldI h 1 r i = some x) (d : decode cc pc = .ok (.baload, 1)) (kk : G p l e R s m args below meth c Q D dA h0 nL h (pc + 1) L (.int x :: st)) : G p l e R s m args below meth c Q D dA h0 nL h pc L (.int i :: va_rf r :: st) := fun H locs cells slots ls a1 a2 a3 a4 a5 a6 => by
  obtain ⟨a, n, f, rfl, ha, hin, rfl⟩ := aldI_some hv
  obtain ⟨cell, q1, q2, q3, q4, q5, q6, q7⟩ := (a1.1 a _ ha).2
  have hlt : i.toNatClampNeg < n := Nat.not_le.mp fun q => hin (Or.inr q)
  exact W.bald (v := .int (f i.toNatClampNeg)) X.1 X.2.1 q1 (arrOfW X.2.2.2.2.2.1 (t := 1) rfl q2 q4) q3 (fun q => hin (q.imp id (fun z => Nat.le_trans q5 z))) (q7 _ hlt) rfl rfl d (kk H locs cells slots ls a1 a2 a3 a4 a5 a6)
theorem g_lald (X : FX p l s m args meth R c cc nL own D dA h0 hh) {r : Option Nat} {i : Int32} {x : Int64} (hv : aldJ h 4 r i = some x) (d : decode cc pc = .ok (.laload, 1)) (kk : G p l e R s m args below meth c Q D dA h0 nL h (pc + 1) L (.long x :: st)) : G p l e R s m args below meth c Q D dA h0 nL h pc L (.int i :: va_rf r :: st) := fun H locs cells slots ls a1 a2 a3 a4 a5 a6 => by
  obtain ⟨a, n, f, rfl, ha, hin, rfl⟩ := aldJ_some hv
  obtain ⟨cell, q1, q2, q3, q4, q5, q6, q7⟩ := (a1.1 a _ ha).2
  have hlt : i.toNatClampNeg < n := Nat.not_le.mp fun q => hin (Or.inr q)
  exact W.lald (v := .long (f i.toNatClampNeg)) X.1 X.2.1 q1 (arrOfW X.2.2.2.2.2.1 (t := 4) rfl q2 q4) q3 (fun q => hin (q.imp id (fun z => Nat.le_trans q5 z))) (q7 _ hlt) rfl rfl d (kk H locs cells slots ls a1 a2 a3 a4 a5 a6)
theorem g_aald (X : FX p l s m args meth R c cc nL own D dA h0 hh) {t : Nat} {C : String} {r x : Option Nat} {i : Int32} (ht : ftys[t]? = some (.object C)) (hv : aldR h t r i = some x) (d : decode cc pc = .ok (.aaload, 1)) (kk : G p l e R s m args below meth c Q D dA h0 nL h (pc + 1) L (va_rf x :: st)) : G p l e R s m args below meth c Q D dA h0 nL h pc L (.int i :: va_rf r :: st) := fun H locs cells slots ls a1 a2 a3 a4 a5 a6 => by
  obtain ⟨a, n, f, rfl, ha, hin, rfl⟩ := aldR_some hv
  obtain ⟨cell, q1, q2, q3, q4, q5, q6, q7⟩ := (a1.1 a _ ha).2
  have hlt : i.toNatClampNeg < n := Nat.not_le.mp fun q => hin (Or.inr q)
  exact W.aald (v := va_rf (f i.toNatClampNeg)) (ty := .object C) X.1 X.2.1 q1 (arrOfW X.2.2.2.2.2.1 ht q2 q4) rfl q3 (fun q => hin (q.imp id (fun z => Nat.le_trans q5 z))) (q7 _ hlt) rfl rfl d (kk H locs cells slots ls a1 a2 a3 a4 a5 a6)
theorem ftys_all {s : State} {D : va_G} {dA : Nat → ClassId} {hz : HH} (hK : KD D dA hz s) {t : Nat} (ht : t < 5) : ∃ ty, ftys[t]? = some ty ∧ ArrOfT s (dA t) ty := by
  have : ∃ ty, ftys[t]? = some ty := ⟨_, List.getElem?_eq_getElem (by simpa [ftys] using ht)⟩
  obtain ⟨ty, hty⟩ := this
  exact ⟨ty, hty, (hK.2.1 t ty hty).1⟩
theorem g_alen (X : FX p l s m args meth R c cc nL own D dA h0 hh) {r : Option Nat} {x : Int32} (hv : alen h r = some x) (d : decode cc pc = .ok (.arraylength, 1)) (kk : G p l e R s m args below meth c Q D dA h0 nL h (pc + 1) L (.int x :: st)) : G p l e R s m args below meth c Q D dA h0 nL h pc L (va_rf r :: st) := fun H locs cells slots ls a1 a2 a3 a4 a5 a6 => by
  obtain ⟨a, t', n, v, rfl, ha, ht5, rfl⟩ := alen_some hv
  obtain ⟨cell, q1, q2, q3, q4, q5, q6, q7⟩ := (a1.1 a _ ha).2
  obtain ⟨ty, hty, hA⟩ := ftys_all X.2.2.2.2.2.1 ht5
  exact W.alen (n := Int32.ofNat n) X.1 X.2.1 q1 (arrOfW X.2.2.2.2.2.1 hty q2 q4) q6 rfl rfl d (kk H locs cells slots ls a1 a2 a3 a4 a5 a6)
theorem g_iast (X : FX p l s m args meth R c cc nL own D dA h0 hh) {r : Option Nat} {i x : Int32} (hv : astI h r i x = some h') (d : decode cc pc = .ok (.iastore, 1)) (kk : G p l e R s m args below meth c Q D dA h0 nL h' (pc + 1) L st) : G p l e R s m args below meth c Q D dA h0 nL h pc L (.int x :: .int i :: va_rf r :: st) := fun H locs cells slots ls a1 a2 a3 a4 a5 a6 => by
  obtain ⟨a, n, f, rfl, ha, hin, hb, rfl⟩ := astI_some hv
  refine W.iast X.1 X.2.1 ((a1.1 a _ ha).1 hb) ((X.2.2.2.2.2.1.2.1 0 _ rfl).1 n _) (fun q => by cases q) (by show ¬ (i < 0 ∨ (arrV _ _ _).slots.size ≤ _); rw [arrV_size]; exact hin) rfl rfl d fun H1 e1 z oq => ?_
  rw [arrV_store, avV_upd] at e1
  exact kk H1 _ cells slots ls (a1.set z oq e1) a2 (a3.put z oq (show hB h0 ≤ a by rw [← hB_eq a2]; exact hb)) a4 a5 a6
theorem g_bast (X : FX p l s m args meth R c cc nL own D dA h0 hh) {r : Option Nat} {i x : Int32} (hv : astB h r i x = some h') (d : decode cc pc = .ok (.bastore, 1)) (kk : G p l e R s m args below meth c Q D dA h0 nL h' (pc + 1) L st) : G p l e R s m args below meth c Q D dA h0 nL h pc L (.int x :: .int i :: va_rf r :: st) := fun H locs cells slots ls a1 a2 a3 a4 a5 a6 => by
  obtain ⟨a, n, f, rfl, ha, hin, hb, rfl⟩ := astB_some hv
  refine W.bast X.1 X.2.1 ((a1.1 a _ ha).1 hb) ((X.2.2.2.2.2.1.2.1 1 _ rfl).1 n _) (fun q => by cases q) (by show ¬ (i < 0 ∨ (arrV _ _ _).slots.size ≤ _); rw [arrV_size]; exact hin) rfl rfl d fun H1 e1 z oq => ?_
  rw [narrow_byte, arrV_store, avV_upd] at e1
  exact kk H1 _ cells slots ls (a1.set z oq e1) a2 (a3.put z oq (show hB h0 ≤ a by rw [← hB_eq a2]; exact hb)) a4 a5 a6
theorem g_last (X : FX p l s m args meth R c cc nL own D dA h0 hh) {r : Option Nat} {i : Int32} {x : Int64} (hv : astJ h r i x = some h') (d : decode cc pc = .ok (.lastore, 1)) (kk : G p l e R s m args below meth c Q D dA h0 nL h' (pc + 1) L st) : G p l e R s m args below meth c Q D dA h0 nL h pc L (.long x :: .int i :: va_rf r :: st) := fun H locs cells slots ls a1 a2 a3 a4 a5 a6 => by
  obtain ⟨a, n, f, rfl, ha, hin, hb, rfl⟩ := astJ_some hv
  refine W.last X.1 X.2.1 ((a1.1 a _ ha).1 hb) ((X.2.2.2.2.2.1.2.1 4 _ rfl).1 n _) (fun q => by cases q) (by show ¬ (i < 0 ∨ (arrV _ _ _).slots.size ≤ _); rw [arrV_size]; exact hin) rfl rfl d fun H1 e1 z oq => ?_
  rw [arrV_store, avV_updL] at e1
  exact kk H1 _ cells slots ls (a1.set z oq e1) a2 (a3.put z oq (show hB h0 ≤ a by rw [← hB_eq a2]; exact hb)) a4 a5 a6
theorem asg_ok (X : FX p l s m args meth R c cc nL own D dA h0 hh) {t ci : Nat} {r : vw_C} (hs : okst t ci = true) (hc : fcl[ci]? = some r) : ∃ (ty : FieldType) (kA : Class) (comp : ClassId) (C : String), ftys[t]? = some (.object C) ∧ s.vm.classes[dA t]? = some kA ∧ kA.kind = .array comp (.object C) ∧ s.vm.findClass C = some comp ∧ s.vm.assignable (D.1 ci) comp = true := by
  have hcls := (X.2.2.2.2.2.1.1 ci r hc).2
  have hcast : ∀ C : String, (Cond.castable r.1 C ∈ nwl) → ∀ comp, s.vm.findClass C = some comp → s.vm.assignable (D.1 ci) comp = true := by
    intro C hw comp hcomp
    obtain ⟨c1, t1, f1, f2, f3⟩ := Cond.castable_spec (va_Nw.use (A := args) rfl (X.2.2.2.2.2.1.2.2.1 _ hw))
    cases hcls.1.symm.trans f1
    cases hcomp.symm.trans f2
    exact f3
  unfold okst at hs
  simp only [Bool.or_eq_true, Bool.and_eq_true, beq_iff_eq] at hs
  rcases hs with ⟨rfl, rfl⟩ | ⟨rfl, hs⟩
  · obtain ⟨kA, comp, k1, k2, k3, -⟩ := (X.2.2.2.2.2.1.2.1 3 _ rfl).2
    refine ⟨.int, kA, comp, _, rfl, k1, k2, k3, ?_⟩
    have hr : r = (RX3, TX3, 1) := Option.some.inj (hc.symm.trans rfl)
    subst hr
    cases k3.symm.trans hcls.1
    exact va_assign hcls
  · obtain ⟨kA, comp, k1, k2, k3, -⟩ := (X.2.2.2.2.2.1.2.1 2 _ rfl).2
    refine ⟨.int, kA, comp, _, rfl, k1, k2, k3, hcast _ ?_ comp k3⟩
    rcases hs with (rfl | rfl) | rfl
    · have hr : r = (RX2, TX2, 5) := Option.some.inj (hc.symm.trans rfl)
      subst hr
      exact nw_in q2405 rfl
    · have hr : r = (RX5, TX5, 5) := Option.some.inj (hc.symm.trans rfl)
      subst hr
      exact nw_in q2410 rfl
    · have hr : r = (RX7, TX7, 3) := Option.some.inj (hc.symm.trans rfl)
      subst hr
      exact nw_in q2415 rfl
theorem g_aast (X : FX p l s m args meth R c cc nL own D dA h0 hh) {t : Nat} {r v : Option Nat} {i : Int32} (hv : astR h t r i v = some h') (d : decode cc pc = .ok (.aastore, 1)) (kk : G p l e R s m args below meth c Q D dA h0 nL h' (pc + 1) L st) : G p l e R s m args below meth c Q D dA h0 nL h pc L (va_rf v :: .int i :: va_rf r :: st) := fun H locs cells slots ls a1 a2 a3 a4 a5 a6 => by
  obtain ⟨a, n, f, rfl, ha, hin, hb, hok, ht, rfl⟩ := astR_some hv
  have hlt : i.toNatClampNeg < n := Nat.not_le.mp fun q => hin (Or.inr q)
  have h0i : ¬ i < 0 := fun q => hin (Or.inl q)
  have hcell := (a1.1 a _ ha).1 hb
  have fin : ∀ H1 : Heap, H1[a]? = some ((arrV (dA t) n (avV (.inr (.inr f)))).setSlot i.toNatClampNeg (va_rf v)) → H1.size = H.size → (∀ q, q ≠ a → H1[q]? = H[q]?) → W p l e R s m args below meth c H1 (locs ++ [⟨a, i.toNatClampNeg⟩]) cells slots Q (F0 m (pc + 1) ls st) := by
    intro H1 e1 z oq
    rw [arrV_store, avV_updR] at e1
    exact kk H1 _ cells slots ls (a1.set z oq e1) a2 (a3.put z oq (show hB h0 ≤ a by rw [← hB_eq a2]; exact hb)) a4 a5 a6
  cases v with
  | none =>
    have hA : ∃ C, s.isArrayOf (arrV (dA t) n (avV (.inr (.inr f)))) (.object C) := by
      rcases ht with rfl | rfl
      · exact ⟨_, (X.2.2.2.2.2.1.2.1 2 _ rfl).1 n _⟩
      · exact ⟨_, (X.2.2.2.2.2.1.2.1 3 _ rfl).1 n _⟩
    obtain ⟨C, hA⟩ := hA
    exact va_WaastN (C := C) X.1 X.2.1 hcell hA (fun q => by cases q) (by show ¬ (i < 0 ∨ (arrV _ _ _).slots.size ≤ _); rw [arrV_size]; exact hin) rfl rfl d fin
  | some b =>
    unfold okstH at hok
    simp only at hok
    split at hok
    · rename_i ci fs hbF
      simp only [Bool.and_eq_true, decide_eq_true_eq] at hok
      obtain ⟨hok, hbb⟩ := hok
      obtain ⟨r', h1, h2, cellV, g1, g2, g3, g4⟩ := (a1.1 b _ hbF).1 hbb
      obtain ⟨-, kA, comp, C, e1, e2, e3, e4, e5⟩ := asg_ok X hok h1
      obtain ⟨kC, hkC, -⟩ := (X.2.2.2.2.2.1.1 ci _ h1).2.2
      obtain ⟨c1, kcomp, hk2⟩ : ∃ c1 kcomp, s.vm.findClass C = some c1 ∧ s.vm.classes[c1]? = some kcomp := by
        obtain ⟨kk1, hkk1, -⟩ := Vm.findClass_spec e4
        exact ⟨comp, kk1, e4, hkk1⟩
      cases e4.symm.trans hk2.1
      exact W.aast X.1 X.2.1 hcell (fun q z => by cases z) (fun z => by cases z) e2 e3 rfl hk2.2 ⟨h0i, by show _ < (arrV _ _ _).slots.size; rw [arrV_size]; exact hlt⟩ g1 (fun q z => by rw [g3] at z; cases z) (by rw [g2]; exact hkC) (by rw [g2]; exact e5) rfl rfl d fin
    · cases hok
theorem g_new (X : FX p l s m args meth R c cc nL own D dA h0 hh) {C : String} {T : u_T} {N ci index : Nat} {fs : List Value} (hin : ∀ w ∈ u_ws C T N, w ∈ lw_all) (ty : Nat → FieldType) (hty : ∀ k, k < N → parseFieldDescriptor (T k).2.2.1 = some (ty k)) (hc : fcl[ci]? = some (C, T, N)) (hcl : Cond.classLink own index C ∈ lw_all) (hinst : Cond.instantiable C N ∈ lw_all) (hini : Cond.initialized C ∈ lw_all) (hlen : fs.length = N) (hfs : ∀ j, j < N → defaultValue (ty j) = vp_V fs j) (hv : newO h ci N fs = some h') (d : decode cc pc = .ok (.new index, 3)) (kk : G p l e R s m args below meth c Q D dA h0 nL h' (pc + 3) L (va_rf (some (hSz h)) :: st)) : G p l e R s m args below meth c Q D dA h0 nL h pc L st := fun H locs cells slots ls a1 a2 a3 a4 a5 a6 => by
  unfold newO at hv
  split at hv
  · rename_i hroom
    cases hv
    have hts := X.2.2.2.2.1
    have hKn := X.2.2.2.2.2.1.1 ci _ hc
    have hz := a1.2.1
    have r1 := X.2.2.2.2.2.2.2.2.2.1
    have r2 := X.2.2.2.2.2.2.2.2.2.2.1
    have e1' := hLim_eq a2
    have e2' := hSlim_eq a2
    refine W.newcK X.1 X.2.1 X.2.2.2.1 (hts _ hcl) (hts _ hinst) (hts _ hini) rfl d (by omega) (by omega) hKn.2.1 rfl fun H1 kC hkC e1 z1 o1 => ?_
    rw [hz]
    refine kk H1 locs _ _ ls (a1.push z1 o1 ⟨_, hc, hlen, (u_born ty hts hin hKn hkC e1 hty).to hfs⟩ hroom.1 hroom.2) a2 ⟨Nat.le_trans a3.1 (by omega), fun x h1 h2 => (o1 x (Nat.lt_of_lt_of_le h1 a3.1)).trans (a3.2.1 x h1 h2), a3.2.2⟩ ?_ ?_ a6
    · show cells + 1 + hSz h0 = hSz h + 1
      omega
    · show slots + N + hSl h0 = hSl h + N
      omega
  · cases hv
theorem prim_cls {s : State} {D : va_G} {dA : Nat → ClassId} {hz : HH} (hK : KD D dA hz s) {t : Nat} {ty : FieldType} (ht : ftys[t]? = some ty) {nm : String} (hnm : "[" ++ ty.toString = nm) : s.vm.findClass nm = some (dA t) := by
  have h := (hK.2.1 t ty ht).2
  rw [← hnm]
  cases ty with
  | object C => exact h.choose_spec.choose_spec.2.2.2
  | _ => exact h
theorem g_newa (X : FX p l s m args meth R c cc nL own D dA h0 hh) {atype : ArrayType} {t : Nat} {n : Int32} (harr : Cond.arrayClass (newarray.typeOf atype) ∈ lw_all) (ht : ftys[t]? = some (newarray.typeOf atype)) (hzero : avV (zeroA t) = fun _ => defaultValue (newarray.typeOf atype)) (hb8 : componentBytes (newarray.typeOf atype) ≤ 8) (hv : newA h t n = some h') (d : decode cc pc = .ok (.newarray atype, 2)) (kk : G p l e R s m args below meth c Q D dA h0 nL h' (pc + 2) L (va_rf (some (hSz h)) :: st)) : G p l e R s m args below meth c Q D dA h0 nL h pc L (.int n :: st) := fun H locs cells slots ls a1 a2 a3 a4 a5 a6 => by
  unfold newA at hv
  split at hv
  · rename_i hroom
    cases hv
    obtain ⟨hn, hbig, hl1, hl2⟩ := hroom
    have hts := X.2.2.2.2.1
    have hz := a1.2.1
    have r1 := X.2.2.2.2.2.2.2.2.2.1
    have r2 := X.2.2.2.2.2.2.2.2.2.2.1
    have e1' := hLim_eq a2
    have e2' := hSlim_eq a2
    have hbytes : n.toNatClampNeg * componentBytes (newarray.typeOf atype) ≤ 536870912 := Nat.le_trans (Nat.mul_le_mul hbig hb8) (by decide)
    refine va_newaK X.1 X.2.1 (hts _ harr) rfl d rfl hn rfl hbytes (by omega) (by omega) rfl fun H1 cA e1 z1 o1 hAr hNm => ?_
    have hcA : cA = dA t := Option.some.inj (hNm.symm.trans (prim_cls X.2.2.2.2.2.1 ht rfl))
    subst hcA
    rw [hz]
    refine kk H1 locs _ _ ls (a1.push z1 o1 ?_ hl1 hl2) a2 ⟨Nat.le_trans a3.1 (by omega), fun x h1 h2 => (o1 x (Nat.lt_of_lt_of_le h1 a3.1)).trans (a3.2.1 x h1 h2), a3.2.2⟩ ?_ ?_ a6
    · show H1[H.size]? = some (arrV (dA t) n.toNatClampNeg (avV (zeroA t)))
      rw [hzero]
      exact e1
    · show cells + 1 + hSz h0 = hSz h + 1
      omega
    · show slots + n.toNatClampNeg + hSl h0 = hSl h + n.toNatClampNeg
      omega
  · cases hv
theorem g_newq (X : FX p l s m args meth R c cc nL own D dA h0 hh) {index t : Nat} {C : String} {n : Int32} (hclink : Cond.classLink own index C ∈ lw_all) (ht : ftys[t]? = some (.object C)) (hover : va_AO C s) (hzero : avV (zeroA t) = fun _ => .null) (hv : newA h t n = some h') (d : decode cc pc = .ok (.anewarray index, 3)) (kk : G p l e R s m args below meth c Q D dA h0 nL h' (pc + 3) L (va_rf (some (hSz h)) :: st)) : G p l e R s m args below meth c Q D dA h0 nL h pc L (.int n :: st) := fun H locs cells slots ls a1 a2 a3 a4 a5 a6 => by
  unfold newA at hv
  split at hv
  · rename_i hroom
    cases hv
    obtain ⟨hn, hbig, hl1, hl2⟩ := hroom
    have hts := X.2.2.2.2.1
    have hz := a1.2.1
    have r1 := X.2.2.2.2.2.2.2.2.2.1
    have r2 := X.2.2.2.2.2.2.2.2.2.2.1
    have e1' := hLim_eq a2
    have e2' := hSlim_eq a2
    refine W.anew X.1 X.2.1 X.2.2.2.1 (hts _ hclink) (va_AO.use hover) rfl d rfl hn (by omega) (by omega) (by omega) fun cA kA comp f1 f2 f3 f4 => ?_
    have hcA : cA = dA t := Option.some.inj (f1.symm.trans (prim_cls X.2.2.2.2.2.1 ht rfl))
    subst hcA
    generalize hH1 : H.push ({ cls := dA t, slots := Array.replicate n.toNatClampNeg .null, vm := .none } : Cell) = H1
    have z1 : H1.size = H.size + 1 := by rw [← hH1, Array.size_push]
    have e1 : H1[H.size]? = some (arrV (dA t) n.toNatClampNeg (fun _ => .null)) := by rw [← hH1, Array.getElem?_push_size, ← arrV_new]
    have o1 : ∀ q : Nat, q < H.size → H1[q]? = H[q]? := fun q hq => by rw [← hH1, Array.getElem?_push, if_neg (Nat.ne_of_lt hq)]
    rw [hz]
    refine kk H1 locs _ _ ls (a1.push z1 o1 ?_ hl1 hl2) a2 ⟨Nat.le_trans a3.1 (by omega), fun x h1 h2 => (o1 x (Nat.lt_of_lt_of_le h1 a3.1)).trans (a3.2.1 x h1 h2), a3.2.2⟩ ?_ ?_ a6
    · show H1[H.size]? = some (arrV (dA t) n.toNatClampNeg (avV (zeroA t)))
      rw [hzero]
      exact e1
    · show cells + 1 + hSz h0 = hSz h + 1
      omega
    · show slots + n.toNatClampNeg + hSl h0 = hSl h + n.toNatClampNeg
      omega
  · cases hv
end GH
