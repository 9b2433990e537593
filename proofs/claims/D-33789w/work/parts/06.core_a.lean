
/-! CORE: a heap as a function, a judgement over the kit's W with one row an instruction, one form of contract -/
set_option maxRecDepth 100000
abbrev AV : Type := (Nat → Int32) ⊕ (Nat → Int64) ⊕ (Nat → Option Nat)
abbrev AC : Type := (Nat × Nat × AV) ⊕ (Nat × List Value)
abbrev HH : Type := (Nat × Nat × Nat × (Nat → Nat)) × (Nat × Nat × (Nat → Option AC))
def avV (v : AV) (j : Nat) : Value := match v with
  | .inl f => .int (f j)
  | .inr (.inl f) => .long (f j)
  | .inr (.inr f) => va_rf (f j)
/-- of an own exception the one field of its own -/
def TK6 : u_T := fun _ => TX6 6
def tyK6 : Nat → FieldType := fun _ => .int
theorem in_K6 : ∀ w ∈ u_ws RX6 TK6 1, w ∈ lw_all := by
  intro w hw
  obtain ⟨k, -, hk⟩ := List.mem_map.mp hw
  rw [← hk]
  exact in_X6 _ (u_in_lay (k := 6) (by decide))
theorem tyK6_ok : ∀ k, k < 1 → parseFieldDescriptor (TK6 k).2.2.1 = some (tyK6 k) := fun _ _ => tyX6_ok 6 (by decide)
theorem nmK6 : ∀ a, a < 1 → ∀ b, b < 1 → a ≠ b → (TK6 a).2.1 ≠ (TK6 b).2.1 := fun a ha b hb h => absurd (by omega) h
theorem in_S6 : ∀ w ∈ u_ws RJ6 TJ6 2, w ∈ lw_all := by
  intro w hw
  obtain ⟨k, hk, hkw⟩ := List.mem_map.mp hw
  rw [← hkw]
  exact in_J6 _ (u_in_lay (Nat.lt_trans (List.mem_range.mp hk) (by decide)))
/-- the classes whose objects the heap holds, by number -/
abbrev fcl : List vw_C := [(RX1, TX1, 4), (RX4, TX4, 29), (RX2, TX2, 5), (RX3, TX3, 1), (RX5, TX5, 5), (RX7, TX7, 3), (RX8, TX8, 8), (RX6, TK6, 1), (RJ2, TJ2, 3), (RJ3, TJ3, 3), (RJ5, TJ5, 4), (RJ6, TJ6, 2)]
def hB (h : HH) : Nat := h.1.1
def hLim (h : HH) : Nat := h.1.2.1
def hSlim (h : HH) : Nat := h.1.2.2.1
def hSa (h : HH) : Nat → Nat := h.1.2.2.2
def hSz (h : HH) : Nat := h.2.1
def hSl (h : HH) : Nat := h.2.2.1
def hF (h : HH) : Nat → Option AC := h.2.2.2
def hset (h : HH) (a : Nat) (e : AC) : HH := (h.1, h.2.1, h.2.2.1, va_up h.2.2.2 a (some e))
def hpush (h : HH) (e : AC) (n : Nat) : HH := (h.1, h.2.1 + 1, h.2.2.1 + n, va_up h.2.2.2 h.2.1 (some e))
/-- one cell more of which nothing is known -/
def hskip (h : HH) (n : Nat) : HH := (h.1, h.2.1 + 1, h.2.2.1 + n, va_up h.2.2.2 h.2.1 none)
/-! what an instruction reads and writes -/
def getV (h : HH) (ci k : Nat) (r : Option Nat) : Option Value := match r with
  | none => none
  | some a => match hF h a with
    | some (.inr (c, fs)) => if c = ci then fs[k]? else none
    | _ => none
def getI (h : HH) (ci k : Nat) (r : Option Nat) : Option Int32 := match getV h ci k r with
  | some (.int x) => some x
  | _ => none
def getJ (h : HH) (ci k : Nat) (r : Option Nat) : Option Int64 := match getV h ci k r with
  | some (.long x) => some x
  | _ => none
def getR (h : HH) (ci k : Nat) (r : Option Nat) : Option (Option Nat) := match getV h ci k r with
  | some (.ref a) => some (some a)
  | some .null => some none
  | _ => none
def putV (h : HH) (ci k : Nat) (r : Option Nat) (v : Value) : Option HH := match r with
  | none => none
  | some a => match hF h a with
    | some (.inr (c, fs)) => if c = ci ∧ k < fs.length ∧ hB h ≤ a then some (hset h a (.inr (c, fs.set k v))) else none
    | _ => none
def aget (h : HH) (t : Nat) (r : Option Nat) (i : Int32) : Option (Nat × Nat × AV) := match r with
  | none => none
  | some a => match hF h a with
    | some (.inl (t', n, v)) => if t' = t ∧ ¬ (i < 0 ∨ n ≤ i.toNatClampNeg) then some (a, n, v) else none
    | _ => none
def aldI (h : HH) (t : Nat) (r : Option Nat) (i : Int32) : Option Int32 := match aget h t r i with
  | some (_, _, .inl f) => some (f i.toNatClampNeg)
  | _ => none
def aldJ (h : HH) (t : Nat) (r : Option Nat) (i : Int32) : Option Int64 := match aget h t r i with
  | some (_, _, .inr (.inl f)) => some (f i.toNatClampNeg)
  | _ => none
def aldR (h : HH) (t : Nat) (r : Option Nat) (i : Int32) : Option (Option Nat) := match aget h t r i with
  | some (_, _, .inr (.inr f)) => some (f i.toNatClampNeg)
  | _ => none
def alen (h : HH) (r : Option Nat) : Option Int32 := match r with
  | none => none
  | some a => match hF h a with
    | some (.inl (t, n, _)) => if t < 5 then some (Int32.ofNat n) else none
    | _ => none
def astI (h : HH) (r : Option Nat) (i x : Int32) : Option HH := match aget h 0 r i with
  | some (a, n, .inl f) => if hB h ≤ a then some (hset h a (.inl (0, n, .inl (upd f i.toNatClampNeg x)))) else none
  | _ => none
def astB (h : HH) (r : Option Nat) (i x : Int32) : Option HH := match aget h 1 r i with
  | some (a, n, .inl f) => if hB h ≤ a then some (hset h a (.inl (1, n, .inl (upd f i.toNatClampNeg x.toInt8.toInt32)))) else none
  | _ => none
def astJ (h : HH) (r : Option Nat) (i : Int32) (x : Int64) : Option HH := match aget h 4 r i with
  | some (a, n, .inr (.inl f)) => if hB h ≤ a then some (hset h a (.inl (4, n, .inr (.inl (vp_updL f i.toNatClampNeg x))))) else none
  | _ => none
/-- may an object of this kind stand in an array of that kind -/
def okst (t ci : Nat) : Bool := (t == 3 && ci == 3) || (t == 2 && (ci == 2 || ci == 4 || ci == 5))
def okstH (h : HH) (t : Nat) (v : Option Nat) : Bool := match v with
  | none => true
  | some b => match hF h b with
    | some (.inr (ci, _)) => okst t ci && decide (hB h ≤ b)
    | _ => false
def astR (h : HH) (t : Nat) (r : Option Nat) (i : Int32) (v : Option Nat) : Option HH := match aget h t r i with
  | some (a, n, .inr (.inr f)) => if hB h ≤ a ∧ okstH h t v = true ∧ (t = 2 ∨ t = 3) then some (hset h a (.inl (t, n, .inr (.inr (va_up f i.toNatClampNeg v))))) else none
  | _ => none
def newO (h : HH) (ci n : Nat) (fs : List Value) : Option HH := if hSz h + 1 ≤ hLim h ∧ hSl h + n ≤ hSlim h then some (hpush h (.inr (ci, fs)) n) else none
def zeroA (t : Nat) : AV := if t = 4 then .inr (.inl fun _ => 0) else if t = 2 ∨ t = 3 then .inr (.inr fun _ => none) else .inl fun _ => 0
def newA (h : HH) (t : Nat) (n : Int32) : Option HH := if ¬ n < 0 ∧ n.toNatClampNeg ≤ 1000000 ∧ hSz h + 1 ≤ hLim h ∧ hSl h + n.toNatClampNeg ≤ hSlim h then some (hpush h (.inl (t, n.toNatClampNeg, zeroA t)) n.toNatClampNeg) else none
def cloneA (h : HH) (t : Nat) (r : Option Nat) : Option HH := match r with
  | none => none
  | some a => match hF h a with
    | some (.inl (t', n, .inl f)) => if t' = t ∧ hB h ≤ a ∧ hSz h + 1 ≤ hLim h ∧ hSl h + n ≤ hSlim h then some (hpush h (.inl (t, n, .inl f)) n) else none
    | _ => none
theorem bnd {α β : Type} {x : Option α} {f : α → Option β} {o : β} (h : Option.bind x f = some o) : ∃ v, x = some v ∧ f v = some o := by
  cases x with
  | none => cases h
  | some v => exact ⟨v, rfl, h⟩
/-- a loop: a body goes on with a new state, or ends -/
def lp {σ ρ : Type} (B : σ → Option (σ ⊕ ρ)) : Nat → σ → Option ρ
  | 0, _ => none
  | n + 1, x => match B x with
    | none => none
    | some (.inl y) => lp B n y
    | some (.inr r) => some r
theorem lp_ind {σ ρ : Type} {B : σ → Option (σ ⊕ ρ)} {Gs : σ → Prop} {Ge : ρ → Prop} (hb : ∀ x o, B x = some o → (∀ y, o = .inl y → Gs y) → (∀ r, o = .inr r → Ge r) → Gs x) : ∀ (n : Nat) (x : σ) (r : ρ), lp B n x = some r → Ge r → Gs x := by
  intro n
  induction n with
  | zero => intro x r h; cases h
  | succ n ih =>
    intro x r h hr
    unfold lp at h
    cases hB : B x with
    | none => rw [hB] at h; cases h
    | some o =>
      rw [hB] at h
      refine hb x o hB (fun y e => ?_) (fun r' e => ?_)
      · subst e; exact ih y r h hr
      · subst e; cases h; exact hr


/-! how the abstract heap lies in the machine's -/
def cellN (D : va_G) (dA : Nat → ClassId) (H : Heap) (a : Nat) (e : AC) : Prop := match e with
  | .inl (t, n, v) => H[a]? = some (arrV (dA t) n (avV v))
  | .inr (ci, fs) => ∃ r, fcl[ci]? = some r ∧ fs.length = r.2.2 ∧ t_OB a (D.1 ci) r.2.2 (D.2 ci) H (vp_V fs)
def cellW (D : va_G) (dA : Nat → ClassId) (H : Heap) (a : Nat) (e : AC) : Prop := match e with
  | .inl (t, n, v) => ∃ cell : Cell, H[a]? = some cell ∧ (cell.cls = dA t ∨ (t = 0 ∧ cell.cls = dA 5)) ∧ cell.vm ≠ .unknown ∧ (∀ k, cell.vm ≠ .statics k) ∧ n ≤ cell.slots.size ∧ cell.slots.size.toInt32 = Int32.ofNat n ∧ ∀ j : Nat, j < n → cell.slots[j]? = some (avV v j)
  | .inr (ci, fs) => ∃ r, fcl[ci]? = some r ∧ fs.length = r.2.2 ∧ ∃ cell : Cell, H[a]? = some cell ∧ cell.cls = D.1 ci ∧ cell.vm ≠ .unknown ∧ (∀ k, cell.vm ≠ .statics k) ∧ ∀ k, k < r.2.2 → cell.slots[D.2 ci k]? = some (vp_V fs k)
theorem cellN.weak {D : va_G} {dA : Nat → ClassId} {H : Heap} {a : Nat} {e : AC} (h : cellN D dA H a e) : cellW D dA H a e := by
  obtain ⟨t, n, v⟩ | ⟨ci, fs⟩ := e
  · refine ⟨_, h, Or.inl rfl, (fun q => by cases q), (fun k q => by cases q), (by rw [arrV_size]; exact Nat.le_refl _), (by first | rfl | (rw [arrV_size]; done) | (rw [arrV_size]; rfl)), fun j hj => arrV_read _ _ hj⟩
  · obtain ⟨r, h1, h2, cell, q1, q2, q3, q4⟩ := h
    exact ⟨r, h1, h2, cell, q1, q2, (by rw [q3]; exact fun q => by cases q), (fun k q => by rw [q3] at q; cases q), q4⟩
theorem cellN.kept {D : va_G} {dA : Nat → ClassId} {H H1 : Heap} {a : Nat} {e : AC} (h : cellN D dA H a e) (hq : H1[a]? = H[a]?) : cellN D dA H1 a e := by
  obtain ⟨t, n, v⟩ | ⟨ci, fs⟩ := e
  · exact hq.trans h
  · obtain ⟨r, h1, h2, h3⟩ := h
    exact ⟨r, h1, h2, h3.kept hq⟩
theorem cellW.kept {D : va_G} {dA : Nat → ClassId} {H H1 : Heap} {a : Nat} {e : AC} (h : cellW D dA H a e) (hq : H1[a]? = H[a]?) : cellW D dA H1 a e := by
  obtain ⟨t, n, v⟩ | ⟨ci, fs⟩ := e
  · obtain ⟨cell, h1, h2⟩ := h
    exact ⟨cell, hq.trans h1, h2⟩
  · obtain ⟨r, h1, h2, cell, h3, h4⟩ := h
    exact ⟨r, h1, h2, cell, hq.trans h3, h4⟩
theorem cellW.lt {D : va_G} {dA : Nat → ClassId} {H : Heap} {a : Nat} {e : AC} (h : cellW D dA H a e) : a < H.size := by
  obtain ⟨t, n, v⟩ | ⟨ci, fs⟩ := e
  · obtain ⟨cell, h1, h2⟩ := h
    exact (Array.getElem?_eq_some_iff.mp h1).1
  · obtain ⟨r, h1, h2, cell, h3, h4⟩ := h
    exact (Array.getElem?_eq_some_iff.mp h3).1
def HD (D : va_G) (dA : Nat → ClassId) (h : HH) (H : Heap) : Prop := (∀ a e, hF h a = some e → (hB h ≤ a → cellN D dA H a e) ∧ cellW D dA H a e) ∧ H.size = hSz h ∧ hB h ≤ hSz h ∧ hSz h ≤ hLim h ∧ hSl h ≤ hSlim h
theorem HD.lt {D : va_G} {dA : Nat → ClassId} {h : HH} {H : Heap} (hH : HD D dA h H) {a : Nat} {e : AC} (ha : hF h a = some e) : a < hSz h := by
  rw [← hH.2.1]; exact (hH.1 a e ha).2.lt
theorem HD.set {D : va_G} {dA : Nat → ClassId} {h : HH} {H H1 : Heap} {a : Nat} {e : AC} (hH : HD D dA h H) (z : H1.size = H.size) (oq : ∀ q : Nat, q ≠ a → H1[q]? = H[q]?) (he : cellN D dA H1 a e) : HD D dA (hset h a e) H1 := by
  refine ⟨fun b e' hb => ?_, z.trans hH.2.1, hH.2.2.1, hH.2.2.2.1, hH.2.2.2.2⟩
  by_cases hab : b = a
  · subst hab
    have h1 : va_up h.2.2.2 b (some e) b = some e' := hb
    simp [va_up] at h1
    subst h1
    exact ⟨fun _ => he, he.weak⟩
  · have h1 : va_up h.2.2.2 a (some e) b = some e' := hb
    simp only [va_up, if_neg hab] at h1
    obtain ⟨k1, k2⟩ := hH.1 b e' h1
    exact ⟨fun q => (k1 q).kept (oq b hab), k2.kept (oq b hab)⟩
theorem HD.push {D : va_G} {dA : Nat → ClassId} {h : HH} {H H1 : Heap} {e : AC} {n : Nat} (hH : HD D dA h H) (z : H1.size = H.size + 1) (oq : ∀ q : Nat, q < H.size → H1[q]? = H[q]?) (he : cellN D dA H1 H.size e) (hl : hSz h + 1 ≤ hLim h) (hs : hSl h + n ≤ hSlim h) : HD D dA (hpush h e n) H1 := by
  have hz := hH.2.1
  refine ⟨fun b e' hb => ?_, by rw [z, hz]; rfl, Nat.le_trans hH.2.2.1 (Nat.le_succ _), hl, hs⟩
  by_cases hab : b = hSz h
  · have h1 : va_up h.2.2.2 h.2.1 (some e) b = some e' := hb
    simp only [va_up, show (b = h.2.1) from hab, if_true] at h1
    cases h1
    rw [hz, ← hab] at he
    exact ⟨fun _ => he, he.weak⟩
  · have h1 : va_up h.2.2.2 h.2.1 (some e) b = some e' := hb
    simp only [va_up, if_neg (show ¬ b = h.2.1 from hab)] at h1
    obtain ⟨k1, k2⟩ := hH.1 b e' h1
    have hb2 : H1[b]? = H[b]? := oq b k2.lt
    exact ⟨fun q => (k1 q).kept hb2, k2.kept hb2⟩
theorem HD.skip {D : va_G} {dA : Nat → ClassId} {h : HH} {H H1 : Heap} {n : Nat} (hH : HD D dA h H) (z : H1.size = H.size + 1) (oq : ∀ q : Nat, q < H.size → H1[q]? = H[q]?) (hl : hSz h + 1 ≤ hLim h) (hs : hSl h + n ≤ hSlim h) : HD D dA (hskip h n) H1 := by
  have hz := hH.2.1
  refine ⟨fun b e' hb => ?_, by rw [z, hz]; rfl, Nat.le_trans hH.2.2.1 (Nat.le_succ _), hl, hs⟩
  have h1 : va_up h.2.2.2 h.2.1 none b = some e' := hb
  by_cases hab : b = h.2.1
  · simp only [va_up, hab, if_true] at h1
    cases h1
  · simp only [va_up, if_neg hab] at h1
    obtain ⟨k1, k2⟩ := hH.1 b e' h1
    have hb2 : H1[b]? = H[b]? := oq b k2.lt
    exact ⟨fun q => (k1 q).kept hb2, k2.kept hb2⟩
/-! locals by their places -/
def PL (L : List (Option Value)) : List (Nat × Value) := (L.zipIdx).filterMap fun q => q.1.map fun v => (q.2, v)
theorem mem_PL {L : List (Option Value)} {i : Nat} {v : Value} : (i, v) ∈ PL L ↔ L[i]? = some (some v) := by
  unfold PL
  rw [List.mem_filterMap]
  constructor
  · rintro ⟨⟨o, j⟩, h1, h2⟩
    rw [List.mem_zipIdx_iff_getElem?] at h1
    cases o with
    | none => cases h2
    | some w =>
      simp at h2
      obtain ⟨rfl, rfl⟩ := h2
      exact h1
  · intro h
    exact ⟨(some v, i), by rw [List.mem_zipIdx_iff_getElem?]; exact h, rfl⟩
def lvr (ls : Array Slot) (nL : Nat) (L : List (Option Value)) : Prop := lv_has ls nL (PL L)
theorem lvr.at {ls : Array Slot} {nL : Nat} {L : List (Option Value)} (h : lvr ls nL L) {i : Nat} {v : Value} (hk : L[i]? = some (some v)) : ls[i]? = some (.val v) := h.2.2 (i, v) (mem_PL.mpr hk)
theorem lvr.mono {ls : Array Slot} {nL : Nat} {L L' : List (Option Value)} (h : lvr ls nL L) (hs : ∀ (i : Nat) (v : Value), L'[i]? = some (some v) → L[i]? = some (some v)) : lvr ls nL L' := ⟨h.1, h.2.1, fun q hq => by
  obtain ⟨i, v⟩ := q
  exact h.at (hs i v (mem_PL.mp hq))⟩
def maskL : List (Option Value) → List Bool → List (Option Value)
  | o :: L, b :: M => (match b with | true => o | false => none) :: maskL L M
  | _, _ => []
theorem maskL_sub : ∀ (L : List (Option Value)) (M : List Bool) (i : Nat) (v : Value), (maskL L M)[i]? = some (some v) → L[i]? = some (some v)
  | [], M, i, v, h => by cases M <;> simp [maskL] at h
  | o :: L, [], i, v, h => by simp [maskL] at h
  | o :: L, b :: M, 0, v, h => by
    cases b
    · simp [maskL] at h
    · simpa [maskL] using h
  | o :: L, b :: M, i + 1, v, h => by
    simp only [maskL, List.getElem?_cons_succ] at h ⊢
    exact maskL_sub L M i v h
def clr2 (o : Option Value) : Option Value := match o with
  | some w => match w.category with
    | 2 => none
    | _ => some w
  | none => none
def stL : List (Option Value) → Nat → Value → List (Option Value)
  | [], _, _ => []
  | _ :: L, 0, v => some v :: L
  | o :: L, 1, v => clr2 o :: stL L 0 v
  | o :: L, i + 2, v => o :: stL L (i + 1) v
def rm1 : List (Option Value) → Nat → List (Option Value)
  | [], _ => []
  | _ :: L, 0 => none :: L
  | o :: L, i + 1 => o :: rm1 L i
theorem clr2_eq {o : Option Value} {w : Value} (h : clr2 o = some w) : o = some w ∧ ¬ w.category = 2 := by
  cases o with
  | none => cases h
  | some x =>
    unfold clr2 at h
    simp only at h
    split at h
    · cases h
    · rename_i hne
      cases h
      exact ⟨rfl, hne⟩
theorem stL_get : ∀ (L : List (Option Value)) (i : Nat) (v : Value) (j : Nat) (w : Value), (stL L i v)[j]? = some (some w) → (j = i ∧ w = v) ∨ (j ≠ i ∧ L[j]? = some (some w) ∧ ¬ (j + 1 = i ∧ w.category = 2))
  | [], i, v, j, w, h => by simp [stL] at h
  | o :: L, 0, v, 0, w, h => by
    simp [stL] at h
    exact Or.inl ⟨rfl, h.symm⟩
  | o :: L, 0, v, j + 1, w, h => by
    simp only [stL, List.getElem?_cons_succ] at h
    exact Or.inr ⟨by omega, by simpa using h, by omega⟩
  | o :: L, 1, v, 0, w, h => by
    simp only [stL, List.getElem?_cons_zero, Option.some.injEq] at h
    obtain ⟨h1, h2⟩ := clr2_eq h
    exact Or.inr ⟨by omega, by simp [h1], fun q => h2 q.2⟩
  | o :: L, 1, v, j + 1, w, h => by
    simp only [stL, List.getElem?_cons_succ] at h
    rcases stL_get L 0 v j w h with ⟨a, b⟩ | ⟨a, b, c⟩
    · exact Or.inl ⟨by omega, b⟩
    · exact Or.inr ⟨by omega, by simpa using b, fun q => by omega⟩
  | o :: L, i + 2, v, 0, w, h => by
    simp only [stL, List.getElem?_cons_zero] at h
    exact Or.inr ⟨by omega, by simpa using h, by omega⟩
  | o :: L, i + 2, v, j + 1, w, h => by
    simp only [stL, List.getElem?_cons_succ] at h
    rcases stL_get L (i + 1) v j w h with ⟨a, b⟩ | ⟨a, b, c⟩
    · exact Or.inl ⟨by omega, b⟩
    · exact Or.inr ⟨by omega, by simpa using b, fun q => c ⟨by omega, q.2⟩⟩
theorem rm1_get : ∀ (L : List (Option Value)) (i j : Nat) (w : Value), (rm1 L i)[j]? = some (some w) → j ≠ i ∧ L[j]? = some (some w)
  | [], i, j, w, h => by simp [rm1] at h
  | o :: L, 0, 0, w, h => by simp [rm1] at h
  | o :: L, 0, j + 1, w, h => by
    simp only [rm1, List.getElem?_cons_succ] at h
    exact ⟨by omega, by simpa using h⟩
  | o :: L, i + 1, 0, w, h => by
    simp only [rm1, List.getElem?_cons_zero] at h
    exact ⟨by omega, by simpa using h⟩
  | o :: L, i + 1, j + 1, w, h => by
    simp only [rm1, List.getElem?_cons_succ] at h
    obtain ⟨a, b⟩ := rm1_get L i j w h
    exact ⟨by omega, by simpa using b⟩
theorem lvr_st {ls : Array Slot} {nL i : Nat} {v : Value} {L : List (Option Value)} (h : lv_has ls nL ((i, v) :: (PL L).filter (fun q => !(q.1 == i) && !(q.1 + 1 == i && q.2.category == 2)))) : lvr ls nL (stL L i v) := by
  refine ⟨h.1, h.2.1, fun q hq => ?_⟩
  obtain ⟨j, w⟩ := q
  rcases stL_get L i v j w (mem_PL.mp hq) with ⟨a, b⟩ | ⟨a, b, c⟩
  · subst a; subst b
    exact h.2.2 _ List.mem_cons_self
  · refine h.2.2 (j, w) (List.mem_cons_of_mem _ (List.mem_filter.mpr ⟨mem_PL.mpr b, ?_⟩))
    simp only [Bool.and_eq_true, Bool.not_eq_true', beq_eq_false_iff_ne, ne_eq, Bool.and_eq_false_iff]
    refine ⟨a, ?_⟩
    by_cases c1 : j + 1 = i
    · exact Or.inr fun c2 => c ⟨c1, c2⟩
    · exact Or.inl c1
theorem lvr_st2 {ls : Array Slot} {nL i : Nat} {v : Value} {L : List (Option Value)} (h : lv_has ls nL ((i, v) :: (PL L).filter (fun q => !(q.1 == i) && (!(q.1 == i + 1) && !(q.1 + 1 == i && q.2.category == 2))))) : lvr ls nL (rm1 (stL L i v) (i + 1)) := by
  refine ⟨h.1, h.2.1, fun q hq => ?_⟩
  obtain ⟨j, w⟩ := q
  obtain ⟨n1, g1⟩ := rm1_get _ _ j w (mem_PL.mp hq)
  rcases stL_get L i v j w g1 with ⟨a, b⟩ | ⟨a, b, c⟩
  · subst a; subst b
    exact h.2.2 _ List.mem_cons_self
  · refine h.2.2 (j, w) (List.mem_cons_of_mem _ (List.mem_filter.mpr ⟨mem_PL.mpr b, ?_⟩))
    simp only [Bool.and_eq_true, Bool.not_eq_true', beq_eq_false_iff_ne, ne_eq, Bool.and_eq_false_iff]
    refine ⟨a, n1, ?_⟩
    by_cases c1 : j + 1 = i
    · exact Or.inr fun c2 => c ⟨c1, c2⟩
    · exact Or.inl c1
