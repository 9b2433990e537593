/-! a zone's sixteen bounds, laid into a heap; what the instructions do on them -/
abbrev ZS : Type := Nat → Int32
def pz (b : Nat) (d : ZS) (h : HH) : HH := hset h b (.inl (0, 16, .inl d))
def WFZ (z b : Nat) (h : HH) : Prop := hF h z = some (.inr (3, [.ref b])) ∧ z ≠ b ∧ hB h ≤ b
def rdZ (d : ZS) (i : Int32) : Option Int32 := if i < 0 ∨ 16 ≤ i.toNatClampNeg then none else some (d i.toNatClampNeg)
def wrZ (d : ZS) (i x : Int32) : Option ZS := if i < 0 ∨ 16 ≤ i.toNatClampNeg then none else some (upd d i.toNatClampNeg x)
section PZ
variable {z b : Nat} {h : HH}
theorem hF_pz_b (d : ZS) : hF (pz b d h) b = some (.inl (0, 16, .inl d)) := by show va_up _ _ _ _ = _; simp [va_up]
theorem hF_pz_z (W : WFZ z b h) (d : ZS) : hF (pz b d h) z = some (.inr (3, [.ref b])) := by
  show va_up _ _ _ _ = _
  simp only [va_up, if_neg W.2.1]
  exact W.1
theorem z_isO (W : WFZ z b h) (d : ZS) : isO (pz b d h) 3 (some z) = some z := by
  unfold isO
  simp only [hF_pz_z W]
  rfl
theorem z_getR (W : WFZ z b h) (d : ZS) : getR (pz b d h) 3 0 (some z) = some (some b) := by
  unfold getR getV
  simp only [hF_pz_z W]
  rfl
theorem z_aldI (d : ZS) (i : Int32) : aldI (pz b d h) 0 (some b) i = rdZ d i := by
  unfold aldI aget rdZ
  simp only [hF_pz_b]
  by_cases hi : i < 0 ∨ 16 ≤ i.toNatClampNeg
  · simp [hi]
  · simp [hi]
theorem z_astI (W : WFZ z b h) (d : ZS) (i x : Int32) : astI (pz b d h) (some b) i x = Option.map (fun d' => pz b d' h) (wrZ d i x) := by
  unfold astI aget wrZ
  simp only [hF_pz_b]
  by_cases hi : i < 0 ∨ 16 ≤ i.toNatClampNeg
  · simp [hi]
  · have hb : hB (pz b d h) ≤ b := W.2.2
    simp [hi, hb]
    unfold pz hset
    simp only
    congr 3
    funext a
    simp only [va_up]
    split <;> rfl
theorem zbind {β : Type} (x : Option ZS) (f : HH → Option β) : Option.bind (Option.map (fun d => pz b d h) x) f = Option.bind x fun d => f (pz b d h) := by cases x <;> rfl
theorem zb2 {α β : Type} (x : Option (α × ZS)) (f : α → HH → Option β) : b2 (Option.map (fun q => (q.1, pz b q.2 h)) x) f = pb2 x fun v d => f v (pz b d h) := by cases x <;> rfl
end PZ
def P_X3_at (a1 : Int32) (a2 : Int32) (h0 : ZS) : Option Int32 :=

  Option.bind (rdZ h0 (((4 : Int32) * a1) + a2)) fun v2 =>
  some v2
set_option maxHeartbeats 1000000 in
theorem e_X3_at {z b : Nat} {h : HH} (W : WFZ z b h) (a1 : Int32) (a2 : Int32) (h0 : ZS) : F_X3_at z a1 a2 (pz b h0 h) = P_X3_at a1 a2 h0 := by
  unfold F_X3_at P_X3_at
  simp only [zbind, zb2, bind_map9, map_bind9, map_pb29, map_ite9, map_some9, map_none9, bind_some9, z_isO W, z_getR W, z_aldI, z_astI W, Sum.map_inl, Sum.map_inr, id_eq]
def P_X3_sets (a1 : Int32) (a2 : Int32) (a3 : Int32) (h0 : ZS) : Option ZS :=

  Option.bind (wrZ h0 (((4 : Int32) * a1) + a2) a3) fun h2 =>
  some h2
set_option maxHeartbeats 1000000 in
theorem e_X3_sets {z b : Nat} {h : HH} (W : WFZ z b h) (a1 : Int32) (a2 : Int32) (a3 : Int32) (h0 : ZS) : F_X3_sets z a1 a2 a3 (pz b h0 h) = Option.map ((fun d => pz b d h)) (P_X3_sets a1 a2 a3 h0) := by
  unfold F_X3_sets P_X3_sets
  simp only [zbind, zb2, bind_map9, map_bind9, map_pb29, map_ite9, map_some9, map_none9, bind_some9, z_isO W, z_getR W, z_aldI, z_astI W, Sum.map_inl, Sum.map_inr, id_eq]
def P_X3_tells (a1 : Int32) (a2 : Int32) (a3 : Int32) (h0 : ZS) : Option ZS :=

  Option.bind (P_X3_at a1 a2 h0) fun v2 =>
  Option.bind (P_X3_sets a1 a2 (F_J11_min v2 a3) h0) fun h4 =>
  some h4
set_option maxHeartbeats 1000000 in
theorem e_X3_tells {z b : Nat} {h : HH} (W : WFZ z b h) (a1 : Int32) (a2 : Int32) (a3 : Int32) (h0 : ZS) : F_X3_tells z a1 a2 a3 (pz b h0 h) = Option.map ((fun d => pz b d h)) (P_X3_tells a1 a2 a3 h0) := by
  unfold F_X3_tells P_X3_tells
  simp only [zbind, zb2, bind_map9, map_bind9, map_pb29, map_ite9, map_some9, map_none9, bind_some9, z_isO W, z_getR W, z_aldI, z_astI W, Sum.map_inl, Sum.map_inr, id_eq, e_X3_at W, e_X3_sets W]
def P_X3_tightens_B16 (x1_1 : Int32) (x2_3 : Int32) (x3_5 : Int32) (h_5 : ZS) : Option ((Int32 × ZS) ⊕ ZS) :=
  if (4 : Int32) ≤ x3_5 then (
    some (.inr h_5)
  ) else (
    Option.bind (P_X3_at x2_3 x1_1 h_5) fun v8 =>
    Option.bind (P_X3_at x1_1 x3_5 h_5) fun v10 =>
    Option.bind (P_X3_tells x2_3 x3_5 (F_X3_sum v8 v10) h_5) fun h12 =>
    some (.inl ((x3_5 + (1 : Int32)), h12))
  )
set_option maxHeartbeats 1000000 in
theorem e_X3_tightens_B16 {z b : Nat} {h : HH} (W : WFZ z b h) (x1_1 : Int32) (x2_3 : Int32) (x3_5 : Int32) (h_5 : ZS) : F_X3_tightens_B16 z x1_1 x2_3 x3_5 (pz b h_5 h) = Option.map (Sum.map (fun q => (q.1, pz b q.2 h)) (fun d => pz b d h)) (P_X3_tightens_B16 x1_1 x2_3 x3_5 h_5) := by
  unfold F_X3_tightens_B16 P_X3_tightens_B16
  simp only [zbind, zb2, bind_map9, map_bind9, map_pb29, map_ite9, map_some9, map_none9, bind_some9, z_isO W, z_getR W, z_aldI, z_astI W, Sum.map_inl, Sum.map_inr, id_eq, e_X3_at W, e_X3_tells W]
theorem l_X3_tightens_B16 {z b : Nat} {h : HH} (W : WFZ z b h) (x1_1 : Int32) (x2_3 : Int32) (n : Nat) (x3_5 : Int32) (h_5 : ZS) : lp (fun w => F_X3_tightens_B16 z x1_1 x2_3 w.1 w.2) n (x3_5, pz b h_5 h) = Option.map (fun d => pz b d h) (lp (fun w => P_X3_tightens_B16 x1_1 x2_3 w.1 w.2) n (x3_5, h_5)) := by
  have := lp_map9 (B := fun w => F_X3_tightens_B16 z x1_1 x2_3 w.1 w.2) (B' := fun w => P_X3_tightens_B16 x1_1 x2_3 w.1 w.2) (fun q => (q.1, pz b q.2 h)) (fun d => pz b d h) (fun w => e_X3_tightens_B16 W x1_1 x2_3 w.1 w.2) n (x3_5, h_5)
  exact this
def P_X3_tightens_B9 (x1_1 : Int32) (x2_3 : Int32) (h_3 : ZS) : Option ((Int32 × ZS) ⊕ ZS) :=
  if (4 : Int32) ≤ x2_3 then (
    some (.inr h_3)
  ) else (
    Option.bind (lp (fun z => P_X3_tightens_B16 x1_1 x2_3 z.1 z.2) 100000 ((0 : Int32), h_3)) fun h13 =>
    some (.inl ((x2_3 + (1 : Int32)), h13))
  )
set_option maxHeartbeats 1000000 in
theorem e_X3_tightens_B9 {z b : Nat} {h : HH} (W : WFZ z b h) (x1_1 : Int32) (x2_3 : Int32) (h_3 : ZS) : F_X3_tightens_B9 z x1_1 x2_3 (pz b h_3 h) = Option.map (Sum.map (fun q => (q.1, pz b q.2 h)) (fun d => pz b d h)) (P_X3_tightens_B9 x1_1 x2_3 h_3) := by
  unfold F_X3_tightens_B9 P_X3_tightens_B9
  simp only [zbind, zb2, bind_map9, map_bind9, map_pb29, map_ite9, map_some9, map_none9, bind_some9, z_isO W, z_getR W, z_aldI, z_astI W, Sum.map_inl, Sum.map_inr, id_eq, l_X3_tightens_B16 W]
theorem l_X3_tightens_B9 {z b : Nat} {h : HH} (W : WFZ z b h) (x1_1 : Int32) (n : Nat) (x2_3 : Int32) (h_3 : ZS) : lp (fun w => F_X3_tightens_B9 z x1_1 w.1 w.2) n (x2_3, pz b h_3 h) = Option.map (fun d => pz b d h) (lp (fun w => P_X3_tightens_B9 x1_1 w.1 w.2) n (x2_3, h_3)) := by
  have := lp_map9 (B := fun w => F_X3_tightens_B9 z x1_1 w.1 w.2) (B' := fun w => P_X3_tightens_B9 x1_1 w.1 w.2) (fun q => (q.1, pz b q.2 h)) (fun d => pz b d h) (fun w => e_X3_tightens_B9 W x1_1 w.1 w.2) n (x2_3, h_3)
  exact this
def P_X3_tightens_B2 (x1_1 : Int32) (h_1 : ZS) : Option ((Int32 × ZS) ⊕ ZS) :=
  if (4 : Int32) ≤ x1_1 then (
    some (.inr h_1)
  ) else (
    Option.bind (lp (fun z => P_X3_tightens_B9 x1_1 z.1 z.2) 100000 ((0 : Int32), h_1)) fun h16 =>
    some (.inl ((x1_1 + (1 : Int32)), h16))
  )
set_option maxHeartbeats 1000000 in
theorem e_X3_tightens_B2 {z b : Nat} {h : HH} (W : WFZ z b h) (x1_1 : Int32) (h_1 : ZS) : F_X3_tightens_B2 z x1_1 (pz b h_1 h) = Option.map (Sum.map (fun q => (q.1, pz b q.2 h)) (fun d => pz b d h)) (P_X3_tightens_B2 x1_1 h_1) := by
  unfold F_X3_tightens_B2 P_X3_tightens_B2
  simp only [zbind, zb2, bind_map9, map_bind9, map_pb29, map_ite9, map_some9, map_none9, bind_some9, z_isO W, z_getR W, z_aldI, z_astI W, Sum.map_inl, Sum.map_inr, id_eq, l_X3_tightens_B9 W]
theorem l_X3_tightens_B2 {z b : Nat} {h : HH} (W : WFZ z b h)  (n : Nat) (x1_1 : Int32) (h_1 : ZS) : lp (fun w => F_X3_tightens_B2 z w.1 w.2) n (x1_1, pz b h_1 h) = Option.map (fun d => pz b d h) (lp (fun w => P_X3_tightens_B2  w.1 w.2) n (x1_1, h_1)) := by
  have := lp_map9 (B := fun w => F_X3_tightens_B2 z w.1 w.2) (B' := fun w => P_X3_tightens_B2  w.1 w.2) (fun q => (q.1, pz b q.2 h)) (fun d => pz b d h) (fun w => e_X3_tightens_B2 W  w.1 w.2) n (x1_1, h_1)
  exact this
def P_X3_tightens (h0 : ZS) : Option ZS :=
  Option.bind (lp (fun z => P_X3_tightens_B2 z.1 z.2) 100000 ((0 : Int32), h0)) fun h19 =>
  some h19
set_option maxHeartbeats 1000000 in
theorem e_X3_tightens {z b : Nat} {h : HH} (W : WFZ z b h) (h0 : ZS) : F_X3_tightens z (pz b h0 h) = Option.map ((fun d => pz b d h)) (P_X3_tightens h0) := by
  unfold F_X3_tightens P_X3_tightens
  simp only [zbind, zb2, bind_map9, map_bind9, map_pb29, map_ite9, map_some9, map_none9, bind_some9, z_isO W, z_getR W, z_aldI, z_astI W, Sum.map_inl, Sum.map_inr, id_eq, l_X3_tightens_B2 W]
def P_X3_hasNone_B4 (x1_1 : Int32) (x2_1 : Int32) (h0 : ZS) : Option ((Int32 × Int32) ⊕ Int32) :=
  if (4 : Int32) ≤ x2_1 then (
    some (.inr x1_1)
  ) else (
    Option.bind (P_X3_at x2_1 x2_1 h0) fun v4 =>
    some (.inl ((x1_1 ||| (if 0 ≤ v4 then (0 : Int32) else (1 : Int32))), (x2_1 + (1 : Int32))))
  )
set_option maxHeartbeats 1000000 in
theorem e_X3_hasNone_B4 {z b : Nat} {h : HH} (W : WFZ z b h) (x1_1 : Int32) (x2_1 : Int32) (h0 : ZS) : F_X3_hasNone_B4 z x1_1 x2_1 (pz b h0 h) = P_X3_hasNone_B4 x1_1 x2_1 h0 := by
  unfold F_X3_hasNone_B4 P_X3_hasNone_B4
  simp only [zbind, zb2, bind_map9, map_bind9, map_pb29, map_ite9, map_some9, map_none9, bind_some9, z_isO W, z_getR W, z_aldI, z_astI W, Sum.map_inl, Sum.map_inr, id_eq, e_X3_at W]
def P_X3_hasNone (h0 : ZS) : Option Int32 :=
  Option.bind (lp (fun z => P_X3_hasNone_B4 z.1 z.2 h0) 100000 ((0 : Int32), (0 : Int32))) fun v6 =>
  Option.bind (okZ v6) fun _ =>
  some v6
set_option maxHeartbeats 1000000 in
theorem e_X3_hasNone {z b : Nat} {h : HH} (W : WFZ z b h) (h0 : ZS) : F_X3_hasNone z (pz b h0 h) = P_X3_hasNone h0 := by
  unfold F_X3_hasNone P_X3_hasNone
  simp only [zbind, zb2, bind_map9, map_bind9, map_pb29, map_ite9, map_some9, map_none9, bind_some9, z_isO W, z_getR W, z_aldI, z_astI W, Sum.map_inl, Sum.map_inr, id_eq, e_X3_hasNone_B4 W]
def P_X3_isTooFar_B4 (x1_1 : Int32) (x2_1 : Int32) (h0 : ZS) : Option ((Int32 × Int32) ⊕ Int32) :=
  if (3 : Int32) ≤ x2_1 then (
    some (.inr x1_1)
  ) else (
    Option.bind (P_X3_at (3 : Int32) x2_1 h0) fun v4 =>
    some (.inl ((x1_1 ||| (if (-v4) ≤ (30 : Int32) then (0 : Int32) else (1 : Int32))), (x2_1 + (1 : Int32))))
  )
set_option maxHeartbeats 1000000 in
theorem e_X3_isTooFar_B4 {z b : Nat} {h : HH} (W : WFZ z b h) (x1_1 : Int32) (x2_1 : Int32) (h0 : ZS) : F_X3_isTooFar_B4 z x1_1 x2_1 (pz b h0 h) = P_X3_isTooFar_B4 x1_1 x2_1 h0 := by
  unfold F_X3_isTooFar_B4 P_X3_isTooFar_B4
  simp only [zbind, zb2, bind_map9, map_bind9, map_pb29, map_ite9, map_some9, map_none9, bind_some9, z_isO W, z_getR W, z_aldI, z_astI W, Sum.map_inl, Sum.map_inr, id_eq, e_X3_at W]
def P_X3_isTooFar (h0 : ZS) : Option Int32 :=
  Option.bind (lp (fun z => P_X3_isTooFar_B4 z.1 z.2 h0) 100000 ((0 : Int32), (0 : Int32))) fun v6 =>
  Option.bind (okZ v6) fun _ =>
  some v6
set_option maxHeartbeats 1000000 in
theorem e_X3_isTooFar {z b : Nat} {h : HH} (W : WFZ z b h) (h0 : ZS) : F_X3_isTooFar z (pz b h0 h) = P_X3_isTooFar h0 := by
  unfold F_X3_isTooFar P_X3_isTooFar
  simp only [zbind, zb2, bind_map9, map_bind9, map_pb29, map_ite9, map_some9, map_none9, bind_some9, z_isO W, z_getR W, z_aldI, z_astI W, Sum.map_inl, Sum.map_inr, id_eq, e_X3_isTooFar_B4 W]
def P_X3_isTooGreat_B4 (x1_1 : Int32) (x2_1 : Int32) (h0 : ZS) : Option ((Int32 × Int32) ⊕ Int32) :=
  if (16 : Int32) ≤ x2_1 then (
    some (.inr x1_1)
  ) else (
    Option.bind (rdZ h0 x2_1) fun v4 =>
    if v4 = (9999 : Int32) then (
      some (.inl ((x1_1 ||| (0 : Int32)), (x2_1 + (1 : Int32))))
    ) else (
      Option.bind (rdZ h0 x2_1) fun v7 =>
      some (.inl ((x1_1 ||| (if v7 ≤ (999 : Int32) then (0 : Int32) else (1 : Int32))), (x2_1 + (1 : Int32))))
    )
  )
set_option maxHeartbeats 1000000 in
theorem e_X3_isTooGreat_B4 {z b : Nat} {h : HH} (W : WFZ z b h) (x1_1 : Int32) (x2_1 : Int32) (h0 : ZS) : F_X3_isTooGreat_B4 z x1_1 x2_1 (pz b h0 h) = P_X3_isTooGreat_B4 x1_1 x2_1 h0 := by
  unfold F_X3_isTooGreat_B4 P_X3_isTooGreat_B4
  simp only [zbind, zb2, bind_map9, map_bind9, map_pb29, map_ite9, map_some9, map_none9, bind_some9, z_isO W, z_getR W, z_aldI, z_astI W, Sum.map_inl, Sum.map_inr, id_eq]
def P_X3_isTooGreat (h0 : ZS) : Option Int32 :=
  Option.bind (lp (fun z => P_X3_isTooGreat_B4 z.1 z.2 h0) 100000 ((0 : Int32), (0 : Int32))) fun v9 =>
  Option.bind (okZ v9) fun _ =>
  some v9
set_option maxHeartbeats 1000000 in
theorem e_X3_isTooGreat {z b : Nat} {h : HH} (W : WFZ z b h) (h0 : ZS) : F_X3_isTooGreat z (pz b h0 h) = P_X3_isTooGreat h0 := by
  unfold F_X3_isTooGreat P_X3_isTooGreat
  simp only [zbind, zb2, bind_map9, map_bind9, map_pb29, map_ite9, map_some9, map_none9, bind_some9, z_isO W, z_getR W, z_aldI, z_astI W, Sum.map_inl, Sum.map_inr, id_eq, e_X3_isTooGreat_B4 W]
def P_X3_resets_B2 (a1 : Int32) (a2 : Int32) (x3_1 : Int32) (h_1 : ZS) : Option ((Int32 × ZS) ⊕ ZS) :=
  if (4 : Int32) ≤ x3_1 then (
    some (.inr h_1)
  ) else (
    if x3_1 = a1 then (
      some (.inl ((x3_1 + (1 : Int32)), h_1))
    ) else (
      Option.bind (P_X3_at (3 : Int32) x3_1 h_1) fun v5 =>
      Option.bind (P_X3_sets a1 x3_1 (F_X3_sum a2 v5) h_1) fun h7 =>
      Option.bind (P_X3_at x3_1 (3 : Int32) h7) fun v9 =>
      Option.bind (P_X3_sets x3_1 a1 (F_X3_sum v9 (-a2)) h7) fun h11 =>
      some (.inl ((x3_1 + (1 : Int32)), h11))
    )
  )
set_option maxHeartbeats 1000000 in
theorem e_X3_resets_B2 {z b : Nat} {h : HH} (W : WFZ z b h) (a1 : Int32) (a2 : Int32) (x3_1 : Int32) (h_1 : ZS) : F_X3_resets_B2 z a1 a2 x3_1 (pz b h_1 h) = Option.map (Sum.map (fun q => (q.1, pz b q.2 h)) (fun d => pz b d h)) (P_X3_resets_B2 a1 a2 x3_1 h_1) := by
  unfold F_X3_resets_B2 P_X3_resets_B2
  simp only [zbind, zb2, bind_map9, map_bind9, map_pb29, map_ite9, map_some9, map_none9, bind_some9, z_isO W, z_getR W, z_aldI, z_astI W, Sum.map_inl, Sum.map_inr, id_eq, e_X3_at W, e_X3_sets W]
theorem l_X3_resets_B2 {z b : Nat} {h : HH} (W : WFZ z b h) (a1 : Int32) (a2 : Int32) (n : Nat) (x3_1 : Int32) (h_1 : ZS) : lp (fun w => F_X3_resets_B2 z a1 a2 w.1 w.2) n (x3_1, pz b h_1 h) = Option.map (fun d => pz b d h) (lp (fun w => P_X3_resets_B2 a1 a2 w.1 w.2) n (x3_1, h_1)) := by
  have := lp_map9 (B := fun w => F_X3_resets_B2 z a1 a2 w.1 w.2) (B' := fun w => P_X3_resets_B2 a1 a2 w.1 w.2) (fun q => (q.1, pz b q.2 h)) (fun d => pz b d h) (fun w => e_X3_resets_B2 W a1 a2 w.1 w.2) n (x3_1, h_1)
  exact this
def P_X3_resets (a1 : Int32) (a2 : Int32) (h0 : ZS) : Option ZS :=
  Option.bind (lp (fun z => P_X3_resets_B2 a1 a2 z.1 z.2) 100000 ((0 : Int32), h0)) fun h12 =>
  some h12
set_option maxHeartbeats 1000000 in
theorem e_X3_resets {z b : Nat} {h : HH} (W : WFZ z b h) (a1 : Int32) (a2 : Int32) (h0 : ZS) : F_X3_resets z a1 a2 (pz b h0 h) = Option.map ((fun d => pz b d h)) (P_X3_resets a1 a2 h0) := by
  unfold F_X3_resets P_X3_resets
  simp only [zbind, zb2, bind_map9, map_bind9, map_pb29, map_ite9, map_some9, map_none9, bind_some9, z_isO W, z_getR W, z_aldI, z_astI W, Sum.map_inl, Sum.map_inr, id_eq, l_X3_resets_B2 W]
def P_X3_delays_B4 (x1_1 : Int32) (x2_1 : Int32) (h_1 : ZS) : Option ((Int32 × Int32 × ZS) ⊕ (Int32 × ZS)) :=
  if (3 : Int32) ≤ x2_1 then (
    some (.inr (x1_1, h_1))
  ) else (
    Option.bind (P_X3_at x2_1 (3 : Int32) h_1) fun v4 =>
    Option.bind (P_X3_sets x2_1 (3 : Int32) (9999 : Int32) h_1) fun h7 =>
    some (.inl ((x1_1 + (if v4 = (9999 : Int32) then (0 : Int32) else (1 : Int32))), (x2_1 + (1 : Int32)), h7))
  )
set_option maxHeartbeats 1000000 in
theorem e_X3_delays_B4 {z b : Nat} {h : HH} (W : WFZ z b h) (x1_1 : Int32) (x2_1 : Int32) (h_1 : ZS) : F_X3_delays_B4 z x1_1 x2_1 (pz b h_1 h) = Option.map (Sum.map (fun q => (q.1, q.2.1, pz b q.2.2 h)) (fun q => (q.1, pz b q.2 h))) (P_X3_delays_B4 x1_1 x2_1 h_1) := by
  unfold F_X3_delays_B4 P_X3_delays_B4
  simp only [zbind, zb2, bind_map9, map_bind9, map_pb29, map_ite9, map_some9, map_none9, bind_some9, z_isO W, z_getR W, z_aldI, z_astI W, Sum.map_inl, Sum.map_inr, id_eq, e_X3_at W, e_X3_sets W]
theorem l_X3_delays_B4 {z b : Nat} {h : HH} (W : WFZ z b h)  (n : Nat) (x1_1 : Int32) (x2_1 : Int32) (h_1 : ZS) : lp (fun w => F_X3_delays_B4 z w.1 w.2.1 w.2.2) n (x1_1, x2_1, pz b h_1 h) = Option.map (fun q => (q.1, pz b q.2 h)) (lp (fun w => P_X3_delays_B4  w.1 w.2.1 w.2.2) n (x1_1, x2_1, h_1)) := by
  have := lp_map9 (B := fun w => F_X3_delays_B4 z w.1 w.2.1 w.2.2) (B' := fun w => P_X3_delays_B4  w.1 w.2.1 w.2.2) (fun q => (q.1, q.2.1, pz b q.2.2 h)) (fun q => (q.1, pz b q.2 h)) (fun w => e_X3_delays_B4 W  w.1 w.2.1 w.2.2) n (x1_1, x2_1, h_1)
  exact this
def P_X3_delays (h0 : ZS) : Option (Int32 × ZS) :=
  Option.bind (lp (fun z => P_X3_delays_B4 z.1 z.2.1 z.2.2) 100000 ((0 : Int32), (0 : Int32), h0)) fun q0_9 =>
  some (q0_9.1, q0_9.2)
set_option maxHeartbeats 1000000 in
theorem e_X3_delays {z b : Nat} {h : HH} (W : WFZ z b h) (h0 : ZS) : F_X3_delays z (pz b h0 h) = Option.map ((fun q => (q.1, pz b q.2 h))) (P_X3_delays h0) := by
  unfold F_X3_delays P_X3_delays
  simp only [zbind, zb2, bind_map9, map_bind9, map_pb29, map_ite9, map_some9, map_none9, bind_some9, z_isO W, z_getR W, z_aldI, z_astI W, Sum.map_inl, Sum.map_inr, id_eq, l_X3_delays_B4 W]
def P_X3_goesBack_B11 (x1_1 : Int32) (x2_3 : Int32) (x3_3 : Int32) (h_1 : ZS) : Option ((Int32 × Int32) ⊕ Int32) :=
  if (3 : Int32) ≤ x3_3 then (
    some (.inr x2_3)
  ) else (
    Option.bind (P_X3_at x3_3 x1_1 h_1) fun v6 =>
    some (.inl ((F_J11_min x2_3 v6), (x3_3 + (1 : Int32))))
  )
set_option maxHeartbeats 1000000 in
theorem e_X3_goesBack_B11 {z b : Nat} {h : HH} (W : WFZ z b h) (x1_1 : Int32) (x2_3 : Int32) (x3_3 : Int32) (h_1 : ZS) : F_X3_goesBack_B11 z x1_1 x2_3 x3_3 (pz b h_1 h) = P_X3_goesBack_B11 x1_1 x2_3 x3_3 h_1 := by
  unfold F_X3_goesBack_B11 P_X3_goesBack_B11
  simp only [zbind, zb2, bind_map9, map_bind9, map_pb29, map_ite9, map_some9, map_none9, bind_some9, z_isO W, z_getR W, z_aldI, z_astI W, Sum.map_inl, Sum.map_inr, id_eq, e_X3_at W]
def P_X3_goesBack_B2 (x1_1 : Int32) (h_1 : ZS) : Option ((Int32 × ZS) ⊕ ZS) :=
  if (3 : Int32) ≤ x1_1 then (
    some (.inr h_1)
  ) else (
    Option.bind (lp (fun z => P_X3_goesBack_B11 x1_1 z.1 z.2 h_1) 100000 ((0 : Int32), (0 : Int32))) fun v7 =>
    Option.bind (P_X3_sets (3 : Int32) x1_1 v7 h_1) fun h9 =>
    some (.inl ((x1_1 + (1 : Int32)), h9))
  )
set_option maxHeartbeats 1000000 in
theorem e_X3_goesBack_B2 {z b : Nat} {h : HH} (W : WFZ z b h) (x1_1 : Int32) (h_1 : ZS) : F_X3_goesBack_B2 z x1_1 (pz b h_1 h) = Option.map (Sum.map (fun q => (q.1, pz b q.2 h)) (fun d => pz b d h)) (P_X3_goesBack_B2 x1_1 h_1) := by
  unfold F_X3_goesBack_B2 P_X3_goesBack_B2
  simp only [zbind, zb2, bind_map9, map_bind9, map_pb29, map_ite9, map_some9, map_none9, bind_some9, z_isO W, z_getR W, z_aldI, z_astI W, Sum.map_inl, Sum.map_inr, id_eq, e_X3_goesBack_B11 W, e_X3_sets W]
theorem l_X3_goesBack_B2 {z b : Nat} {h : HH} (W : WFZ z b h)  (n : Nat) (x1_1 : Int32) (h_1 : ZS) : lp (fun w => F_X3_goesBack_B2 z w.1 w.2) n (x1_1, pz b h_1 h) = Option.map (fun d => pz b d h) (lp (fun w => P_X3_goesBack_B2  w.1 w.2) n (x1_1, h_1)) := by
  have := lp_map9 (B := fun w => F_X3_goesBack_B2 z w.1 w.2) (B' := fun w => P_X3_goesBack_B2  w.1 w.2) (fun q => (q.1, pz b q.2 h)) (fun d => pz b d h) (fun w => e_X3_goesBack_B2 W  w.1 w.2) n (x1_1, h_1)
  exact this
def P_X3_goesBack (h0 : ZS) : Option ZS :=
  Option.bind (lp (fun z => P_X3_goesBack_B2 z.1 z.2) 100000 ((0 : Int32), h0)) fun h12 =>
  some h12
set_option maxHeartbeats 1000000 in
theorem e_X3_goesBack {z b : Nat} {h : HH} (W : WFZ z b h) (h0 : ZS) : F_X3_goesBack z (pz b h0 h) = Option.map ((fun d => pz b d h)) (P_X3_goesBack h0) := by
  unfold F_X3_goesBack P_X3_goesBack
  simp only [zbind, zb2, bind_map9, map_bind9, map_pb29, map_ite9, map_some9, map_none9, bind_some9, z_isO W, z_getR W, z_aldI, z_astI W, Sum.map_inl, Sum.map_inr, id_eq, l_X3_goesBack_B2 W]
def P_X3_frees_B2 (a1 : Int32) (x2_1 : Int32) (h_1 : ZS) : Option ((Int32 × ZS) ⊕ ZS) :=
  if (4 : Int32) ≤ x2_1 then (
    some (.inr h_1)
  ) else (
    if x2_1 = a1 then (
      some (.inl ((x2_1 + (1 : Int32)), h_1))
    ) else (
      Option.bind (P_X3_sets a1 x2_1 (9999 : Int32) h_1) fun h5 =>
      Option.bind (P_X3_at x2_1 (3 : Int32) h5) fun v7 =>
      Option.bind (P_X3_sets x2_1 a1 v7 h5) fun h9 =>
      some (.inl ((x2_1 + (1 : Int32)), h9))
    )
  )
set_option maxHeartbeats 1000000 in
theorem e_X3_frees_B2 {z b : Nat} {h : HH} (W : WFZ z b h) (a1 : Int32) (x2_1 : Int32) (h_1 : ZS) : F_X3_frees_B2 z a1 x2_1 (pz b h_1 h) = Option.map (Sum.map (fun q => (q.1, pz b q.2 h)) (fun d => pz b d h)) (P_X3_frees_B2 a1 x2_1 h_1) := by
  unfold F_X3_frees_B2 P_X3_frees_B2
  simp only [zbind, zb2, bind_map9, map_bind9, map_pb29, map_ite9, map_some9, map_none9, bind_some9, z_isO W, z_getR W, z_aldI, z_astI W, Sum.map_inl, Sum.map_inr, id_eq, e_X3_at W, e_X3_sets W]
theorem l_X3_frees_B2 {z b : Nat} {h : HH} (W : WFZ z b h) (a1 : Int32) (n : Nat) (x2_1 : Int32) (h_1 : ZS) : lp (fun w => F_X3_frees_B2 z a1 w.1 w.2) n (x2_1, pz b h_1 h) = Option.map (fun d => pz b d h) (lp (fun w => P_X3_frees_B2 a1 w.1 w.2) n (x2_1, h_1)) := by
  have := lp_map9 (B := fun w => F_X3_frees_B2 z a1 w.1 w.2) (B' := fun w => P_X3_frees_B2 a1 w.1 w.2) (fun q => (q.1, pz b q.2 h)) (fun d => pz b d h) (fun w => e_X3_frees_B2 W a1 w.1 w.2) n (x2_1, h_1)
  exact this
def P_X3_frees (a1 : Int32) (h0 : ZS) : Option ZS :=
  Option.bind (lp (fun z => P_X3_frees_B2 a1 z.1 z.2) 100000 ((0 : Int32), h0)) fun h10 =>
  some h10
set_option maxHeartbeats 1000000 in
theorem e_X3_frees {z b : Nat} {h : HH} (W : WFZ z b h) (a1 : Int32) (h0 : ZS) : F_X3_frees z a1 (pz b h0 h) = Option.map ((fun d => pz b d h)) (P_X3_frees a1 h0) := by
  unfold F_X3_frees P_X3_frees
  simp only [zbind, zb2, bind_map9, map_bind9, map_pb29, map_ite9, map_some9, map_none9, bind_some9, z_isO W, z_getR W, z_aldI, z_astI W, Sum.map_inl, Sum.map_inr, id_eq, l_X3_frees_B2 W]
def P_X3_copies_B2 (a1 : Int32) (a2 : Int32) (x3_1 : Int32) (h_1 : ZS) : Option ((Int32 × ZS) ⊕ ZS) :=
  if (4 : Int32) ≤ x3_1 then (
    some (.inr h_1)
  ) else (
    if x3_1 = a1 then (
      some (.inl ((x3_1 + (1 : Int32)), h_1))
    ) else (
      Option.bind (P_X3_at a2 x3_1 h_1) fun v5 =>
      Option.bind (P_X3_sets a1 x3_1 v5 h_1) fun h7 =>
      Option.bind (P_X3_at x3_1 a2 h7) fun v9 =>
      Option.bind (P_X3_sets x3_1 a1 v9 h7) fun h11 =>
      some (.inl ((x3_1 + (1 : Int32)), h11))
    )
  )
set_option maxHeartbeats 1000000 in
theorem e_X3_copies_B2 {z b : Nat} {h : HH} (W : WFZ z b h) (a1 : Int32) (a2 : Int32) (x3_1 : Int32) (h_1 : ZS) : F_X3_copies_B2 z a1 a2 x3_1 (pz b h_1 h) = Option.map (Sum.map (fun q => (q.1, pz b q.2 h)) (fun d => pz b d h)) (P_X3_copies_B2 a1 a2 x3_1 h_1) := by
  unfold F_X3_copies_B2 P_X3_copies_B2
  simp only [zbind, zb2, bind_map9, map_bind9, map_pb29, map_ite9, map_some9, map_none9, bind_some9, z_isO W, z_getR W, z_aldI, z_astI W, Sum.map_inl, Sum.map_inr, id_eq, e_X3_at W, e_X3_sets W]
theorem l_X3_copies_B2 {z b : Nat} {h : HH} (W : WFZ z b h) (a1 : Int32) (a2 : Int32) (n : Nat) (x3_1 : Int32) (h_1 : ZS) : lp (fun w => F_X3_copies_B2 z a1 a2 w.1 w.2) n (x3_1, pz b h_1 h) = Option.map (fun d => pz b d h) (lp (fun w => P_X3_copies_B2 a1 a2 w.1 w.2) n (x3_1, h_1)) := by
  have := lp_map9 (B := fun w => F_X3_copies_B2 z a1 a2 w.1 w.2) (B' := fun w => P_X3_copies_B2 a1 a2 w.1 w.2) (fun q => (q.1, pz b q.2 h)) (fun d => pz b d h) (fun w => e_X3_copies_B2 W a1 a2 w.1 w.2) n (x3_1, h_1)
  exact this
def P_X3_copies (a1 : Int32) (a2 : Int32) (h0 : ZS) : Option ZS :=
  Option.bind (lp (fun z => P_X3_copies_B2 a1 a2 z.1 z.2) 100000 ((0 : Int32), h0)) fun h12 =>
  Option.bind (P_X3_sets a1 a2 (0 : Int32) h12) fun h14 =>
  Option.bind (P_X3_sets a2 a1 (0 : Int32) h14) fun h16 =>
  some h16
set_option maxHeartbeats 1000000 in
theorem e_X3_copies {z b : Nat} {h : HH} (W : WFZ z b h) (a1 : Int32) (a2 : Int32) (h0 : ZS) : F_X3_copies z a1 a2 (pz b h0 h) = Option.map ((fun d => pz b d h)) (P_X3_copies a1 a2 h0) := by
  unfold F_X3_copies P_X3_copies
  simp only [zbind, zb2, bind_map9, map_bind9, map_pb29, map_ite9, map_some9, map_none9, bind_some9, z_isO W, z_getR W, z_aldI, z_astI W, Sum.map_inl, Sum.map_inr, id_eq, l_X3_copies_B2 W, e_X3_sets W]
def P_X3_shifts_B2 (a1 : Int32) (a2 : Int32) (x3_1 : Int32) (h_1 : ZS) : Option ((Int32 × ZS) ⊕ ZS) :=
  if (4 : Int32) ≤ x3_1 then (
    some (.inr h_1)
  ) else (
    if x3_1 = a1 then (
      some (.inl ((x3_1 + (1 : Int32)), h_1))
    ) else (
      Option.bind (P_X3_at a1 x3_1 h_1) fun v5 =>
      Option.bind (P_X3_sets a1 x3_1 (F_X3_sum v5 a2) h_1) fun h7 =>
      Option.bind (P_X3_at x3_1 a1 h7) fun v9 =>
      Option.bind (P_X3_sets x3_1 a1 (F_X3_sum v9 (-a2)) h7) fun h11 =>
      some (.inl ((x3_1 + (1 : Int32)), h11))
    )
  )
set_option maxHeartbeats 1000000 in
theorem e_X3_shifts_B2 {z b : Nat} {h : HH} (W : WFZ z b h) (a1 : Int32) (a2 : Int32) (x3_1 : Int32) (h_1 : ZS) : F_X3_shifts_B2 z a1 a2 x3_1 (pz b h_1 h) = Option.map (Sum.map (fun q => (q.1, pz b q.2 h)) (fun d => pz b d h)) (P_X3_shifts_B2 a1 a2 x3_1 h_1) := by
  unfold F_X3_shifts_B2 P_X3_shifts_B2
  simp only [zbind, zb2, bind_map9, map_bind9, map_pb29, map_ite9, map_some9, map_none9, bind_some9, z_isO W, z_getR W, z_aldI, z_astI W, Sum.map_inl, Sum.map_inr, id_eq, e_X3_at W, e_X3_sets W]
theorem l_X3_shifts_B2 {z b : Nat} {h : HH} (W : WFZ z b h) (a1 : Int32) (a2 : Int32) (n : Nat) (x3_1 : Int32) (h_1 : ZS) : lp (fun w => F_X3_shifts_B2 z a1 a2 w.1 w.2) n (x3_1, pz b h_1 h) = Option.map (fun d => pz b d h) (lp (fun w => P_X3_shifts_B2 a1 a2 w.1 w.2) n (x3_1, h_1)) := by
  have := lp_map9 (B := fun w => F_X3_shifts_B2 z a1 a2 w.1 w.2) (B' := fun w => P_X3_shifts_B2 a1 a2 w.1 w.2) (fun q => (q.1, pz b q.2 h)) (fun d => pz b d h) (fun w => e_X3_shifts_B2 W a1 a2 w.1 w.2) n (x3_1, h_1)
  exact this
def P_X3_shifts (a1 : Int32) (a2 : Int32) (h0 : ZS) : Option ZS :=
  Option.bind (lp (fun z => P_X3_shifts_B2 a1 a2 z.1 z.2) 100000 ((0 : Int32), h0)) fun h12 =>
  some h12
set_option maxHeartbeats 1000000 in
theorem e_X3_shifts {z b : Nat} {h : HH} (W : WFZ z b h) (a1 : Int32) (a2 : Int32) (h0 : ZS) : F_X3_shifts z a1 a2 (pz b h0 h) = Option.map ((fun d => pz b d h)) (P_X3_shifts a1 a2 h0) := by
  unfold F_X3_shifts P_X3_shifts
  simp only [zbind, zb2, bind_map9, map_bind9, map_pb29, map_ite9, map_some9, map_none9, bind_some9, z_isO W, z_getR W, z_aldI, z_astI W, Sum.map_inl, Sum.map_inr, id_eq, l_X3_shifts_B2 W]
def P_X3_widens_B2 (x1_1 : Int32) (h_1 : ZS) : Option ((Int32 × ZS) ⊕ ZS) :=
  if (16 : Int32) ≤ x1_1 then (
    some (.inr h_1)
  ) else (
    Option.bind (rdZ h_1 x1_1) fun v4 =>
    Option.bind (wrZ h_1 x1_1 (if v4 ≤ (9 : Int32) then (F_J11_max (-10 : Int32) v4) else (9999 : Int32))) fun h7 =>
    some (.inl ((x1_1 + (1 : Int32)), h7))
  )
set_option maxHeartbeats 1000000 in
theorem e_X3_widens_B2 {z b : Nat} {h : HH} (W : WFZ z b h) (x1_1 : Int32) (h_1 : ZS) : F_X3_widens_B2 z x1_1 (pz b h_1 h) = Option.map (Sum.map (fun q => (q.1, pz b q.2 h)) (fun d => pz b d h)) (P_X3_widens_B2 x1_1 h_1) := by
  unfold F_X3_widens_B2 P_X3_widens_B2
  simp only [zbind, zb2, bind_map9, map_bind9, map_pb29, map_ite9, map_some9, map_none9, bind_some9, z_isO W, z_getR W, z_aldI, z_astI W, Sum.map_inl, Sum.map_inr, id_eq]
theorem l_X3_widens_B2 {z b : Nat} {h : HH} (W : WFZ z b h)  (n : Nat) (x1_1 : Int32) (h_1 : ZS) : lp (fun w => F_X3_widens_B2 z w.1 w.2) n (x1_1, pz b h_1 h) = Option.map (fun d => pz b d h) (lp (fun w => P_X3_widens_B2  w.1 w.2) n (x1_1, h_1)) := by
  have := lp_map9 (B := fun w => F_X3_widens_B2 z w.1 w.2) (B' := fun w => P_X3_widens_B2  w.1 w.2) (fun q => (q.1, pz b q.2 h)) (fun d => pz b d h) (fun w => e_X3_widens_B2 W  w.1 w.2) n (x1_1, h_1)
  exact this
def P_X3_widens (h0 : ZS) : Option ZS :=
  Option.bind (lp (fun z => P_X3_widens_B2 z.1 z.2) 100000 ((0 : Int32), h0)) fun h8 =>
  some h8
set_option maxHeartbeats 1000000 in
theorem e_X3_widens {z b : Nat} {h : HH} (W : WFZ z b h) (h0 : ZS) : F_X3_widens z (pz b h0 h) = Option.map ((fun d => pz b d h)) (P_X3_widens h0) := by
  unfold F_X3_widens P_X3_widens
  simp only [zbind, zb2, bind_map9, map_bind9, map_pb29, map_ite9, map_some9, map_none9, bind_some9, z_isO W, z_getR W, z_aldI, z_astI W, Sum.map_inl, Sum.map_inr, id_eq, l_X3_widens_B2 W]
