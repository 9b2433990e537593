/-! THE CLAIM OUT OF ONE WALK OF THE LAW'S BODY. Your part is whole_start (and what it stands on); all else here is the same for every law, but numbers. -/
def R_law : String := "FerryClocksLaw"
def lw_P (b : Addr) (xs : List Int32) (args : Array Value) (s : State) : Prop := args = #[.ref b] ∧ s.IntsAt b xs ∧ xs.length ≤ 120 ∧ (Jvm.Cond.and given_1 narrow_1).before args s = true
def lw_Q (_ : Array Value) (s : State) (o : Outcome) (t : State) : Prop := o = .returned (some (.int 1)) ∧ Framed s o t [] 1200048 5501818
def lw_Z (below : List Frame) (a : Array Value) (s : State) : State → Prop := fun t => ∃ o, t.status = .running ∧ Ended t below o ∧ lw_Q a s o t
/-- the law's own end, with 1 on the stack, nothing written that was there before, its room as the claim has it -/
theorem lw_ret {p : Program} {l : Launch} {e : Env} {s : State} {m : MethodId} {below : List Frame} {meth : Method} {c : Code} {b : Nat} (hx : p.tables.exec = Jvm.exec) (hb : c.code = code) (hr : meth.sig.returnType = ret) (hlocks : meth.locks = false) {pc : Nat} {H : Heap} {ls : Array Slot} (hdg : decode code pc = .ok (.ireturn, 1)) : W p l e room_1 s m #[Value.ref b] below meth c H [] 1200048 5501818 (lw_Z below #[Value.ref b] s) (F0 m pc ls [.int 1]) := by
  intro T hT X
  obtain ⟨fs, hret, hrun, hended, hW, hframe⟩ := X.leave (v := some (.int 1)) (hlocks := hlocks) (fun h => by rw [hr] at h; cases h)
  have hmeth' : T.vm.method? m = some meth := X.method'
  refine ⟨T.setFrames fs, ?_, .returned (some (.int 1)), hrun, hended, rfl, ⟨_, rfl⟩, hW, hframe⟩
  jvm_step X.here [X.here.top, hx, hb, hdg, hmeth', hr, ret, narrow_b1]
  (try refine ⟨rfl, ?_⟩); (try refine ⟨rfl, ?_⟩)
  first | (intro acts; rw [hret _ acts rfl rfl rfl]) | rw [hret _ _ rfl rfl rfl]
  exact Steps.refl _
/-- what holds at the law's entry: the machine, the code, the tables' words (any of lw_tbl by 'hts w (by decide +kernel)'), the script of L ints xs at the cell b, what the Statement gives of the start (any of its parts by flat_of_before) -/
def lw_At (p : Program) (s : State) (m : MethodId) (meth : Method) (c : Code) (b L : Nat) (xs : Nat → Int32) : Prop :=
  p.tables.exec = Jvm.exec ∧ c.code = code ∧ meth.sig.returnType = ret ∧ c.maxLocals = 8 ∧ s.vm.findClass R_law = some m.cls ∧ (∀ w ∈ lw_tbl, w.before #[Value.ref b] s = true) ∧ va_X b L xs s s.heap ∧ b < s.heap.size ∧ meth.locks = false ∧ (Jvm.Cond.and given_1 narrow_1).before #[Value.ref b] s = true ∧ c.exceptionTable.toList = tableOf []

def mlrB : Nat → Int32 := fun j => [109, 108, 114].getD j 0
def wtB : Nat → Int32 := fun j => [119, 116].getD j 0
/-- the heap at the law's entry -/
def EntryHH (h0 : HH) (b L : Nat) (xs : Nat → Int32) : Prop :=
  hSl h0 = 0 ∧ hSlim h0 = 5501818 ∧ hLim h0 = hSz h0 + 1200048 ∧ hB h0 = hSz h0 ∧ hF h0 b = some (.inl (0, L, .inl xs)) ∧ hF h0 (hSa h0 0) = some (.inl (2, 0, .inr (.inr fun _ => none))) ∧
  (∃ v, hF h0 (hSa h0 5) = some (.inr (11, [va_rf (some v), .int 0])) ∧ hF h0 v = some (.inl (1, 3, .inl mlrB))) ∧
  (∃ v, hF h0 (hSa h0 6) = some (.inr (11, [va_rf (some v), .int 0])) ∧ hF h0 v = some (.inl (1, 2, .inl wtB))) ∧
  (∀ a e, hF h0 a = some e → a < hSz h0)
def PlainLaw : Prop := ∀ (h0 : HH) (b L : Nat) (xs : Nat → Int32), L ≤ 120 → EntryHH h0 b L xs → ∃ hE, F_L_law (some b) h0 = some hE
section EN
variable {s : State} {args : Array Value}
theorem en_cls (hlw : ∀ w ∈ lw_all, w.before args s = true) : ∃ D : va_G, ∀ c q, fcl[c]? = some q → u_Kn s q.1 q.2.1 q.2.2 (D.1 c) (D.2 c) := by
  have hk : ∀ c : Nat, ∃ x : ClassId × (Nat → Nat), ∀ q, fcl[c]? = some q → u_Kn s q.1 q.2.1 q.2.2 x.1 x.2 := by
    intro c
    match c with
    | 0 =>
      obtain ⟨cC, iS, h⟩ := u_known (ws := lw_all) hlw in_X1 (hlw _ q127)
      exact ⟨(cC, iS), fun q hq => by cases hq; exact h⟩
    | 1 =>
      obtain ⟨cC, iS, h⟩ := u_known (ws := lw_all) hlw in_X4 (hlw _ q1753)
      exact ⟨(cC, iS), fun q hq => by cases hq; exact h⟩
    | 2 =>
      obtain ⟨cC, iS, h⟩ := u_known (ws := lw_all) hlw in_X2 (hlw _ q135)
      exact ⟨(cC, iS), fun q hq => by cases hq; exact h⟩
    | 3 =>
      obtain ⟨cC, iS, h⟩ := u_known (ws := lw_all) hlw in_X3 (hlw _ q168)
      exact ⟨(cC, iS), fun q hq => by cases hq; exact h⟩
    | 4 =>
      obtain ⟨cC, iS, h⟩ := u_known (ws := lw_all) hlw in_X5 (hlw _ q293)
      exact ⟨(cC, iS), fun q hq => by cases hq; exact h⟩
    | 5 =>
      obtain ⟨cC, iS, h⟩ := u_known (ws := lw_all) hlw in_X7 (hlw _ q1440)
      exact ⟨(cC, iS), fun q hq => by cases hq; exact h⟩
    | 6 =>
      obtain ⟨cC, iS, h⟩ := u_known (ws := lw_all) hlw in_X8 (hlw _ q1606)
      exact ⟨(cC, iS), fun q hq => by cases hq; exact h⟩
    | 7 =>
      obtain ⟨cC, iS, h⟩ := u_known (ws := lw_all) hlw in_K6 (hlw _ q423)
      exact ⟨(cC, iS), fun q hq => by cases hq; exact h⟩
    | 8 =>
      obtain ⟨cC, iS, h⟩ := u_known (ws := lw_all) hlw in_J2 (hlw _ q141)
      exact ⟨(cC, iS), fun q hq => by cases hq; exact h⟩
    | 9 =>
      obtain ⟨cC, iS, h⟩ := u_known (ws := lw_all) hlw in_J3 (hlw _ q204)
      exact ⟨(cC, iS), fun q hq => by cases hq; exact h⟩
    | 10 =>
      obtain ⟨cC, iS, h⟩ := u_known (ws := lw_all) hlw in_J5 (hlw _ q222)
      exact ⟨(cC, iS), fun q hq => by cases hq; exact h⟩
    | 11 =>
      obtain ⟨cC, iS, h⟩ := u_known (ws := lw_all) hlw in_S6 (hlw _ q1077)
      exact ⟨(cC, iS), fun q hq => by cases hq; exact h⟩
    | n + 12 => exact ⟨(0, fun _ => 0), fun q hq => by cases hq⟩
  obtain ⟨g, hg⟩ := Classical.axiomOfChoice hk
  exact ⟨(fun c => (g c).1, fun c => (g c).2), hg⟩
theorem en_prim {ty : FieldType} (hty : match ty with | .object _ => False | _ => True) (h : (Cond.arrayClass ty).before args s = true) : ∃ cA, ArrOfT s cA ty ∧ va_RA s cA ty := by
  obtain ⟨c, k, comp, h1, h2, h3⟩ := Cond.arrayClass_spec h
  refine ⟨c, fun n z => ⟨fun k h => (by cases h), k, h2, comp, h3⟩, ?_⟩
  cases ty with
  | object C => exact hty.elim
  | _ => exact h1
theorem en_obj {C : String} (h : (Cond.arrayOver (.object C)).before args s = true) : ∃ cA, ArrOfT s cA (.object C) ∧ va_RA s cA (.object C) := by
  obtain ⟨comp, cArr, kArr, h1, h2, h3, h4, h5⟩ := Cond.arrayOver_spec h
  exact ⟨cArr, fun n z => ⟨fun k h => (by cases h), kArr, h3, comp, h4⟩, kArr, comp, h3, h4, h1, h5⟩
/-- a String constant with its bytes -/
theorem en_str {D : va_G} {dA : Nat → ClassId} {own : String} {k N : Nat} {f : Nat → Int32} (hN : N < 2 ^ 31) (hK : u_Kn s RJ6 TJ6 2 (D.1 11) (D.2 11)) (hA1 : s.vm.findClass "[B" = some (dA 1))
    (hex : (Cond.exactly (.string own k) "java/lang/String").before args s = true) (hco : (Cond.eq (.field (.string own k) "java/lang/String" "coder" "B") (.int 0)).before args s = true)
    (har : (Cond.arrayOf (.field (.string own k) "java/lang/String" "value" "[B") .byte).before args s = true) (hle : (Cond.eq (.length (.field (.string own k) "java/lang/String" "value" "[B")) (.int (Int32.ofNat N))).before args s = true)
    (hel : ∀ j : Nat, j < N → (Cond.eq (.elem (.field (.string own k) "java/lang/String" "value" "[B") (.int (Int32.ofNat j))) (.int (f j))).before args s = true)
    (hev : (Cond.exactly (.field (.string own k) "java/lang/String" "value" "[B") "[B").before args s = true) :
    ∃ a v : Nat, (Term.string own k).eval args s none [] s = some (.ref a) ∧ cellW D dA s.heap a (.inr (11, [va_rf (some v), .int 0])) ∧ cellW D dA s.heap v (.inl (1, N, .inl f)) := by
  have hA : ∀ a : Nat, a < s.heap.size → ¬ (fun q => s.heap.size ≤ q) a := fun a h1 h2 => by omega
  obtain ⟨a, c, cell, kc, q1, q2, q3, q4, q5, q6, -⟩ := Cond.exactly_spec hex
  obtain ⟨v, hv, cv, g1, g2, g3, g4, g5, g6, -⟩ := va_Tof (f := fun j => .int (f j)) (A := fun q => s.heap.size ≤ q) hN har (va_eqt hle) (fun j hj => va_eqt (hel j hj)) hA
  obtain ⟨v', c', cell', kc', p1, p2, p3, p4, p5, p6, -⟩ := Cond.exactly_spec hev
  have hvv : v' = v := by
    have := Option.some.inj (p1.symm.trans hv)
    cases this
    rfl
  subst hvv
  cases p3.symm.trans g1
  obtain ⟨cf1, k1, i1, f1, cl1, y1, y2, y3, y4, y5, -⟩ := vk_OFof q1 (va_eqt hco) hA
  obtain ⟨cf2, k2, i2, f2, cl2, z1, z2, z3, z4, z5, -⟩ := vk_OFof q1 hv hA
  cases q3.symm.trans y3
  cases q3.symm.trans z3
  refine ⟨a, v', q1, ⟨_, rfl, rfl, cell, q3, ?_, y4, (fun k h => by rw [h] at q5; cases q5), fun k hk => ?_⟩, ⟨cv, g1, Or.inl (p6.trans (Option.some.inj (p2.symm.trans hA1))), g3, (fun k h => by rw [h] at p5; cases p5), g4, g5, g6⟩⟩
  · rw [q6]
    exact Option.some.inj (q2.symm.trans hK.2.1)
  · have hk2 : k < 2 := hk
    rcases (show k = 0 ∨ k = 1 by omega) with rfl | rfl
    · obtain ⟨cf, kf, fi, fd, w1, w2⟩ := hK.1 0 (by decide)
      cases z1.symm.trans w1
      rw [← w2]
      exact z5
    · obtain ⟨cf, kf, fi, fd, w1, w2⟩ := hK.1 1 (by decide)
      cases y1.symm.trans w1
      rw [← w2]
      exact y5
def en_kd (s : State) (a : Nat) : Option Jvm.Kind := (s.heap[a]?).bind fun c => (s.vm.classes[c.cls]?).map fun k => k.kind
theorem en_kdA {a : Nat} {c : Cell} {ty : FieldType} (h : s.heap[a]? = some c) (hA : s.isArrayOf c ty) : ∃ comp, en_kd s a = some (.array comp ty) := by
  obtain ⟨-, k, hk, comp, hkind⟩ := hA
  exact ⟨comp, by unfold en_kd; rw [h]; simp [hk, hkind]⟩
theorem en_kdW {D : va_G} {dA : Nat → ClassId} {a n : Nat} {v : AV} (hA : ArrOfT s (dA 1) .byte) (h : cellW D dA s.heap a (.inl (1, n, v))) : ∃ comp, en_kd s a = some (.array comp .byte) := by
  obtain ⟨cell, q1, q2, q3, q4, -⟩ := h
  exact en_kdA q1 (arrOfC hA (q2.resolve_right fun z => absurd z.1 (by decide)) q4)
theorem en_kdS {D : va_G} {dA : Nat → ClassId} {a : Nat} {fs : List Value} (hK : u_Kn s RJ6 TJ6 2 (D.1 11) (D.2 11)) (h : cellW D dA s.heap a (.inr (11, fs))) : en_kd s a = some .ordinary := by
  obtain ⟨r, -, -, cell, q1, q2, -⟩ := h
  obtain ⟨-, k, hk, hkind⟩ := hK.2
  unfold en_kd
  rw [q1]
  simp [q2, hk, hkind]
end EN
set_option maxHeartbeats 4000000 in
theorem whole_entry (plain : PlainLaw) {p : Program} {e : Env} {s : State} {m : MethodId} {below : List Frame} {meth : Method} {c : Code} (l : Launch) (hflags : l.flags = flags0) {b L : Nat} {xs : Nat → Int32} (hL : L ≤ 120) (C0 : lw_At p s m meth c b L xs) : W p l e room_1 s m #[Value.ref b] below meth c s.heap [] 0 0 (lw_Z below #[Value.ref b] s) (entryFrame m ([Value.ref b] : List Value).toArray 8) := by
  obtain ⟨hexec, hb, hr, hml, hown, hts, hX, hbl, hlk, hgv, htab⟩ := C0
  have hlw : ∀ w ∈ lw_all, w.before #[Value.ref b] s = true := fun w hw => hts w (lw_all_tbl hw)
  have hs := flat_of_before _ hgv
  have hA : ∀ a : Nat, a < s.heap.size → ¬ (fun q => s.heap.size ≤ q) a := fun a h1 h2 => Nat.not_lt.mpr h2 h1
  obtain ⟨D, hD⟩ := en_cls hlw
  obtain ⟨cI, hI⟩ := en_prim (ty := .int) trivial (hlw _ q182)
  obtain ⟨cB, hB1⟩ := en_prim (ty := .byte) trivial (hlw _ q253)
  obtain ⟨cJ, hJ⟩ := en_prim (ty := .long) trivial (hlw _ q2387)
  obtain ⟨cO, hO⟩ := en_obj (C := "java/lang/Object") (hts _ q210)
  obtain ⟨cZ, hZ⟩ := en_obj (C := "FerryClocks$Zone") (hts _ q167)
  obtain ⟨scr, hcb, hof, hkn, hsz, hval⟩ := hX
  obtain ⟨dA, hdA⟩ : ∃ dA : Nat → ClassId, dA 0 = cI ∧ dA 1 = cB ∧ dA 2 = cO ∧ dA 3 = cZ ∧ dA 4 = cJ ∧ dA 5 = scr.cls := ⟨fun k => match k with | 0 => cI | 1 => cB | 2 => cO | 3 => cZ | 4 => cJ | _ => scr.cls, rfl, rfl, rfl, rfl, rfl, rfl⟩
  obtain ⟨d0, d1, d2, d3, d4, d5⟩ := hdA
  have hty : ∀ k ty, ftys[k]? = some ty → ArrOfT s (dA k) ty ∧ va_RA s (dA k) ty := by
    intro k ty hk
    match k with
    | 0 => cases hk; rw [d0]; exact hI
    | 1 => cases hk; rw [d1]; exact hB1
    | 2 => cases hk; rw [d2]; exact hO
    | 3 => cases hk; rw [d3]; exact hZ
    | 4 => cases hk; rw [d4]; exact hJ
    | n + 5 => cases hk
  have hK11 := hD 11 _ rfl
  have hnB : s.vm.findClass "[B" = some (dA 1) := (hty 1 _ rfl).2
  obtain ⟨s5, v5, e5, w5, w5v⟩ := en_str (D := D) (dA := dA) (own := "FerryClocks$Reader") (k := 65) (N := 3) (f := mlrB) (by decide) hK11 hnB (hs _ (by decide +kernel)) (hs _ (by decide +kernel)) (hs _ (by decide +kernel)) (hs _ (by decide +kernel)) (fun j hj => by
    rcases (show j = 0 ∨ j = 1 ∨ j = 2 by omega) with rfl | rfl | rfl
    · exact hs _ (by decide +kernel)
    · exact hs _ (by decide +kernel)
    · exact hs _ (by decide +kernel)) (hs _ (by decide +kernel))
  obtain ⟨s6, v6, e6, w6, w6v⟩ := en_str (D := D) (dA := dA) (own := "FerryClocks$Reader") (k := 73) (N := 2) (f := wtB) (by decide) hK11 hnB (hs _ (by decide +kernel)) (hs _ (by decide +kernel)) (hs _ (by decide +kernel)) (hs _ (by decide +kernel)) (fun j hj => by
    rcases (show j = 0 ∨ j = 1 by omega) with rfl | rfl
    · exact hs _ (by decide +kernel)
    · exact hs _ (by decide +kernel)) (hs _ (by decide +kernel))
  obtain ⟨a1, -, -, -, e1, -⟩ := Cond.exactly_spec (t := .string "FerryClocks" 134) (cls := "java/lang/String") (hs _ (by decide +kernel))
  obtain ⟨a2, -, -, -, e2, -⟩ := Cond.exactly_spec (t := .string "FerryClocks" 141) (cls := "java/lang/String") (hs _ (by decide +kernel))
  obtain ⟨a3, -, -, -, e3, -⟩ := Cond.exactly_spec (t := .string "FerryClocks" 150) (cls := "java/lang/String") (hs _ (by decide +kernel))
  obtain ⟨a4, -, -, -, e4, -⟩ := Cond.exactly_spec (t := .string "FerryClocks$Refused" 1) (cls := "java/lang/String") (hs _ (by decide +kernel))
  obtain ⟨t0, ht0, ct, g1, g2, g3, g4, g5, -, -⟩ := va_Tof (tm := .static "java/util/ArrayList" "DEFAULTCAPACITY_EMPTY_ELEMENTDATA" "[Ljava/lang/Object;") (ty := .object "java/lang/Object") (N := 0) (f := fun _ => .null) (A := fun q => s.heap.size ≤ q) (by decide) (hs _ (by decide +kernel)) (va_eqt (hs _ (by decide +kernel))) (fun j hj => absurd hj (Nat.not_lt_zero j)) hA
  obtain ⟨t0', cc', ct', -, p1, p2, p3, -, p5, p6, -⟩ := Cond.exactly_spec (t := .static "java/util/ArrayList" "DEFAULTCAPACITY_EMPTY_ELEMENTDATA" "[Ljava/lang/Object;") (cls := "[Ljava/lang/Object;") (hs _ (by decide +kernel))
  have ett : t0' = t0 := by
    have := Option.some.inj (p1.symm.trans ht0)
    cases this
    rfl
  subst ett
  cases p3.symm.trans g1
  obtain ⟨mi, hmi⟩ := va_Mi.of (C := "[Ljava/lang/Object;") (args := #[Value.ref b]) (hs _ (by decide +kernel))
  have hnO : s.vm.findClass "[Ljava/lang/Object;" = some (dA 2) := by
    obtain ⟨kA, comp, -, -, -, h4⟩ := (hty 2 _ rfl).2
    exact h4
  have w0 : cellW D dA s.heap t0' (.inl (2, 0, .inr (.inr fun _ => none))) := ⟨ct, g1, Or.inl (p6.trans (Option.some.inj (p2.symm.trans hnO))), g3, (fun k h => by rw [h] at p5; cases p5), Nat.zero_le _, g5, fun j hj => absurd hj (Nat.not_lt_zero j)⟩
  have wb : cellW D dA s.heap b (.inl (0, L, .inl xs)) := ⟨scr, hcb, Or.inr ⟨rfl, d5.symm⟩, hkn, hof.1, by omega, by rw [hsz], hval⟩
  -- the places are apart
  obtain ⟨cb, kb⟩ := en_kdA hcb hof
  obtain ⟨c0, k0⟩ := en_kdA g1 g2
  obtain ⟨c5, k5v⟩ := en_kdW (hty 1 _ rfl).1 w5v
  obtain ⟨c6, k6v⟩ := en_kdW (hty 1 _ rfl).1 w6v
  have k5 := en_kdS hK11 w5
  have k6 := en_kdS hK11 w6
  have n1 : t0' ≠ b := fun h => by rw [h, kb] at k0; cases k0
  have n2 : s5 ≠ b := fun h => by rw [h, kb] at k5; cases k5
  have n3 : s5 ≠ t0' := fun h => by rw [h, k0] at k5; cases k5
  have n4 : v5 ≠ b := fun h => by rw [h, kb] at k5v; cases k5v
  have n5 : v5 ≠ t0' := fun h => by rw [h, k0] at k5v; cases k5v
  have n6 : v5 ≠ s5 := fun h => by rw [h, k5] at k5v; cases k5v
  have n7 : s6 ≠ b := fun h => by rw [h, kb] at k6; cases k6
  have n8 : s6 ≠ t0' := fun h => by rw [h, k0] at k6; cases k6
  have n9 : s6 ≠ s5 := fun h => va_neR (t := .string "FerryClocks$Reader" 65) (u := .string "FerryClocks$Reader" 73) (hs _ (by decide +kernel)) e5 e6 h.symm
  have n10 : s6 ≠ v5 := fun h => by rw [h, k5v] at k6; cases k6
  have n11 : v6 ≠ b := fun h => by rw [h, kb] at k6v; cases k6v
  have n12 : v6 ≠ t0' := fun h => by rw [h, k0] at k6v; cases k6v
  have n13 : v6 ≠ s5 := fun h => by rw [h, k5] at k6v; cases k6v
  have n14 : v6 ≠ v5 := fun h => by
    obtain ⟨x1, y1, -, -, -, -, z1, -⟩ := w5v
    obtain ⟨x2, y2, -, -, -, -, z2, -⟩ := w6v
    rw [h] at y2
    cases y1.symm.trans y2
    exact absurd (z1.symm.trans z2) (by decide)
  have n15 : v6 ≠ s6 := fun h => by rw [h, k6] at k6v; cases k6v
  obtain ⟨sa, sa0, sa1, sa2, sa3, sa4, sa5, sa6, sa20⟩ : ∃ sa : Nat → Nat, sa 0 = t0' ∧ sa 1 = a1 ∧ sa 2 = a2 ∧ sa 3 = a3 ∧ sa 4 = a4 ∧ sa 5 = s5 ∧ sa 6 = s6 ∧ sa 20 = mi := ⟨fun k => match k with | 0 => t0' | 1 => a1 | 2 => a2 | 3 => a3 | 4 => a4 | 5 => s5 | 6 => s6 | _ => mi, rfl, rfl, rfl, rfl, rfl, rfl, rfl, rfl⟩
  obtain ⟨f, hf⟩ : ∃ f : Nat → Option AC, f = fun a => if a = b then some (.inl (0, L, .inl xs)) else if a = t0' then some (.inl (2, 0, .inr (.inr fun _ => none))) else if a = s5 then some (.inr (11, [va_rf (some v5), .int 0])) else if a = v5 then some (.inl (1, 3, .inl mlrB)) else if a = s6 then some (.inr (11, [va_rf (some v6), .int 0])) else if a = v6 then some (.inl (1, 2, .inl wtB)) else none := ⟨_, rfl⟩
  have hcw : ∀ a e9, f a = some e9 → cellW D dA s.heap a e9 := by
    intro a e9 h
    rw [hf] at h
    dsimp only at h
    by_cases h1 : a = b
    · rw [if_pos h1] at h; cases h; rw [h1]; exact wb
    rw [if_neg h1] at h
    by_cases h2 : a = t0'
    · rw [if_pos h2] at h; cases h; rw [h2]; exact w0
    rw [if_neg h2] at h
    by_cases h3 : a = s5
    · rw [if_pos h3] at h; cases h; rw [h3]; exact w5
    rw [if_neg h3] at h
    by_cases h4 : a = v5
    · rw [if_pos h4] at h; cases h; rw [h4]; exact w5v
    rw [if_neg h4] at h
    by_cases h5 : a = s6
    · rw [if_pos h5] at h; cases h; rw [h5]; exact w6
    rw [if_neg h5] at h
    by_cases h6 : a = v6
    · rw [if_pos h6] at h; cases h; rw [h6]; exact w6v
    rw [if_neg h6] at h
    cases h
  obtain ⟨h0, hh0⟩ : ∃ h0 : HH, h0 = ((s.heap.size, s.heap.size + 1200048, 5501818, sa), (s.heap.size, 0, f)) := ⟨_, rfl⟩
  have eB : hB h0 = s.heap.size := by rw [hh0]; rfl
  have eZ : hSz h0 = s.heap.size := by rw [hh0]; rfl
  have eL : hLim h0 = s.heap.size + 1200048 := by rw [hh0]; rfl
  have eS : hSlim h0 = 5501818 := by rw [hh0]; rfl
  have eU : hSl h0 = 0 := by rw [hh0]; rfl
  have eA : hSa h0 = sa := by rw [hh0]; rfl
  have eF : hF h0 = f := by rw [hh0]; rfl
  have efA : fA h0 = fun q => s.heap.size ≤ q := by unfold fA; rw [eB]
  have hHD : HD D dA h0 s.heap := by
    refine ⟨fun a e9 ha => ?_, eZ.symm, by omega, by omega, by omega⟩
    rw [eF] at ha
    have hw := hcw a e9 ha
    refine ⟨fun hle => absurd hw.lt (by omega), hw⟩
  have hKD : KD D dA h0 s := by
    unfold KD
    rw [eA]
    refine ⟨hD, hty, fun w hw => ?_, ⟨va_AO.of (hts _ q210), va_AO.of (hts _ q167)⟩, fun k q hk => ?_, by rw [sa20]; exact hmi, fun q hq => ?_, by rw [d5]; exact fun n z => ⟨fun k h => (by cases h), hof.2⟩⟩
    · have hk := (List.mem_filter.mp hw).2
      exact va_any (by cases w <;> first | (cases hk; done) | rfl) (hts w (List.mem_filter.mp hw).1)
    · match k with
      | 0 => cases hk; rw [sa1]; exact vk_R.of (hts _ q764) e1
      | 1 => cases hk; rw [sa2]; exact vk_R.of (hts _ q772) e2
      | 2 => cases hk; rw [sa3]; exact vk_R.of (hts _ q1265) e3
      | 3 => cases hk; rw [sa4]; exact vk_R.of (hts _ q465) e4
      | 4 => cases hk; rw [sa5]; exact vk_R.of (hts _ q1663) e5
      | 5 => cases hk; rw [sa6]; exact vk_R.of (hts _ q1714) e6
      | n + 6 => cases hk
    · have hq' : q = ("java/lang/IllegalStateException", "java/lang/IllegalArgumentException") ∨ q = ("java/util/NoSuchElementException", "java/lang/IllegalArgumentException") := by simpa [ncl] using hq
      rcases hq' with rfl | rfl
      · exact va_Nc.of (args := #[Value.ref b]) (hs _ (by decide +kernel))
      · exact va_Nc.of (args := #[Value.ref b]) (hs _ (by decide +kernel))
  have hST : ST h0 s s.heap := by
    unfold ST
    rw [efA, eA, sa0]
    exact ⟨va_Zof (hts _ q153) (hts _ (lw_all_tbl q96)) p1 hA, va_Zof (hts _ q231) (hts _ (lw_all_tbl q101)) (va_eqt (hs _ (by decide +kernel))) hA, vx_Zqof (args := #[Value.ref b]) (hts _ q447) (hts _ (lw_all_tbl q111)) (hs _ (by decide +kernel)) hA, vx_Zqof (args := #[Value.ref b]) (hts _ q449) (hts _ (lw_all_tbl q111)) (hs _ (by decide +kernel)) hA, va_Zqof (args := #[Value.ref b]) (hts _ q989) (hts _ (lw_all_tbl q106)) (hs _ (by decide +kernel)) hA⟩
  have hl : l.stackTraces = false := by
    unfold Launch.stackTraces
    rw [hflags]
    decide +kernel
  obtain ⟨hE, hF⟩ := plain h0 b L xs hL (by
    refine ⟨eU, eS, by omega, by omega, ?_, ?_, ⟨v5, ?_, ?_⟩, ⟨v6, ?_, ?_⟩, fun a e9 ha => by rw [eF] at ha; rw [eZ]; exact (hcw a e9 ha).lt⟩
    · rw [eF, hf]; simp
    · rw [eF, eA, sa0, hf]; simp [n1]
    · rw [eF, eA, sa5, hf]; simp [n2, n3]
    · rw [eF, hf]; simp [n4, n5, n6]
    · rw [eF, eA, sa6, hf]; simp [n7, n8, n9, n10]
    · rw [eF, hf]; simp [n11, n12, n13, n14, n15])
  have X : FX p l s m #[Value.ref b] meth room_1 c cL_law 8 "FerryClocksLaw" D dA h0 [] := ⟨hexec, hb, hml, hown, hlw, hKD, hST, hlk, eZ.symm, by rw [eZ, eL]; show 1200048 + s.heap.size = _; omega, by rw [eU, eS]; rfl, hl, by omega, htab⟩
  have kG := w_L_law (p := p) (e := e) (below := below) (Q := lw_Z below #[Value.ref b] s) hl X rfl rfl (some b) hE hF (fun pc L9 hd => fun H locs cells slots ls a1 a2 a3 a4 a5 a6 T hT XS => by
    have hc : cells ≤ 1200048 := by
      have z1 := a1.2.2.2.1
      have z2 := hLim_eq a2
      omega
    have hsl : slots ≤ 5501818 := by
      have z1 := a1.2.2.2.2
      have z2 := hSlim_eq a2
      omega
    have X5 := Stand.forget (locs := []) XS (fun y hy => by
      have := a3.2.2 y hy
      rw [efA] at this
      exact this)
    exact lw_ret hexec hb hr hlk hd T hT { X5 with same := X5.same.mono hc hsl })
  have kG' : G p l e room_1 s m #[Value.ref b] below meth c (lw_Z below #[Value.ref b] s) D dA h0 8 h0 0 [some (va_rf (some b))] [] := G.pad 7 (L' := [some (va_rf (some b)), none, none, none, none, none, none, none]) rfl kG
  have hlv := lv_entry [Value.ref b] (n := 8) (by simp [lg_sl, Value.category])
  intro T hT XS
  rw [lg_entry_eq]
  exact kG' s.heap [] 0 0 _ hHD rfl va_S.rf (by omega) (by omega) (show lvr _ 8 [some (va_rf (some b))] from ⟨hlv.1, hlv.2.1, fun q hq => by
    obtain ⟨i, v⟩ := q
    have := argL_mem [Value.ref b] 0 i v (by
      have h9 := mem_PL.mp hq
      have h8 : argL [Value.ref b] = [some (va_rf (some b))] := by simp [argL, Value.category, va_rf]
      rw [h8]; exact h9)
    rw [Nat.zero_add] at this
    exact hlv.2.2 _ this⟩) T hT XS
