section PM2
variable {m : Nat} {ad : Nat → Nat} {h : HH}
theorem bind_pu {β : Type} (x : Option MS) (f : HH → Option β) : Option.bind (Option.map (fun S => pu m ad S h) x) f = Option.bind x fun S => f (pu m ad S h) := by cases x <;> rfl
theorem b2_pu {α β : Type} (x : Option (α × MS)) (f : α → HH → Option β) : b2 (Option.map (fun q => (q.1, pu m ad q.2 h)) x) f = pb2 x fun v S => f v (pu m ad S h) := by cases x <;> rfl
def hNil : HH := ((0, 0, 0, fun _ => 0), (0, 0, fun _ => none))
theorem eJ19 (W : WFM m ad h) (x : UInt32) (S : MS) : F_J19_floatToIntBits x (pu m ad S h) = F_J19_floatToIntBits x hNil := by unfold F_J19_floatToIntBits; rfl
theorem eJ20 (W : WFM m ad h) (x : UInt64) (S : MS) : F_J20_doubleToLongBits x (pu m ad S h) = F_J20_doubleToLongBits x hNil := by unfold F_J20_doubleToLongBits; rfl
theorem mv0 : (0 : Nat) ∈ mvl := by decide
theorem mv1 : (1 : Nat) ∈ mvl := by decide
theorem mv2 : (2 : Nat) ∈ mvl := by decide
theorem mv4 : (4 : Nat) ∈ mvl := by decide
theorem mv6 : (6 : Nat) ∈ mvl := by decide
theorem mv9 : (9 : Nat) ∈ mvl := by decide
theorem mv10 : (10 : Nat) ∈ mvl := by decide
theorem mv13 : (13 : Nat) ∈ mvl := by decide
theorem mv14 : (14 : Nat) ∈ mvl := by decide
theorem mv15 : (15 : Nat) ∈ mvl := by decide
theorem mv17 : (17 : Nat) ∈ mvl := by decide
theorem mv18 : (18 : Nat) ∈ mvl := by decide
end PM2
def P_X4_frees_B2 (x1_1 : Int32) (h_1 : MS) : Option ((Int32 × MS) ⊕ MS) :=
  if (16 : Int32) ≤ x1_1 then (
    some (.inr h_1)
  ) else (
    Option.bind (wr h_1 0 ((0 : Int32) + x1_1) (if (x1_1 / (4 : Int32)) = (x1_1 - x1_1 / (4 : Int32) * (4 : Int32)) then (0 : Int32) else (if (x1_1 / (4 : Int32)) = (3 : Int32) then (0 : Int32) else (100000 : Int32)))) fun h6 =>
    some (.inl ((x1_1 + (1 : Int32)), h6))
  )
set_option maxHeartbeats 1000000 in
theorem e_X4_frees_B2 {m : Nat} {ad : Nat → Nat} {h : HH} (W : WFM m ad h) (x1_1 : Int32) (h_1 : MS)  : F_X4_frees_B2 m x1_1 (pu m ad h_1 h) = Option.map (Sum.map (fun q => (q.1, pu m ad q.2 h)) (fun S => pu m ad S h)) (P_X4_frees_B2 x1_1 h_1) := by
  unfold F_X4_frees_B2 P_X4_frees_B2
  simp only [bind_pu, b2_pu, bind_map9, map_bind9, map_pb29, map_ite9, map_some9, map_none9, bind_some9, r_isO, r_aldI W, r_astI W, mv0, mv1, mv2, mv4, mv6, mv9, mv10, mv13, mv14, mv15, mv17, mv18, r_getR0, r_getR1, r_getR2, r_getR4, r_getR6, r_getR9, r_getR10, r_getR13, r_getR14, r_getR15, r_getR17, r_getR18, r_getJ, r_putJ W, r_getI3, r_getI5, r_getI7, r_getI8, r_getI11, r_getI16, r_getI19, r_getI20, r_getI21, r_getI22, r_getI23, r_getI24, r_getI25, r_getI26, r_getI27, r_getI28, r_putI3 W, r_putI5 W, r_putI7 W, r_putI8 W, r_putI11 W, r_putI16 W, r_putI19 W, r_putI20 W, r_putI21 W, r_putI22 W, r_putI23 W, r_putI24 W, r_putI25 W, r_putI26 W, r_putI27 W, r_putI28 W, Sum.map_inl, Sum.map_inr, id_eq, eJ19 W, eJ20 W]
theorem l_X4_frees_B2 {m : Nat} {ad : Nat → Nat} {h : HH} (W : WFM m ad h)   (n : Nat) (x1_1 : Int32) (h_1 : MS) : lp (fun z => F_X4_frees_B2 m z.1 z.2) n (x1_1, pu m ad h_1 h) = Option.map (fun S => pu m ad S h) (lp (fun z => P_X4_frees_B2  z.1 z.2) n (x1_1, h_1)) := by
  have := lp_map9 (B := fun z => F_X4_frees_B2 m z.1 z.2) (B' := fun z => P_X4_frees_B2  z.1 z.2) (fun q => (q.1, pu m ad q.2 h)) (fun S => pu m ad S h) (fun z => e_X4_frees_B2 W  z.1 z.2 ) n (x1_1, h_1)
  exact this
def P_X4_frees (h0 : MS) : Option MS :=
  Option.bind (lp (fun z => P_X4_frees_B2 z.1 z.2) 100000 ((0 : Int32), h0)) fun h7 =>
  some h7
set_option maxHeartbeats 1000000 in
theorem e_X4_frees {m : Nat} {ad : Nat → Nat} {h : HH} (W : WFM m ad h) (h0 : MS)  : F_X4_frees m (pu m ad h0 h) = Option.map ((fun S => pu m ad S h)) (P_X4_frees h0) := by
  unfold F_X4_frees P_X4_frees
  simp only [bind_pu, b2_pu, bind_map9, map_bind9, map_pb29, map_ite9, map_some9, map_none9, bind_some9, r_isO, r_aldI W, r_astI W, mv0, mv1, mv2, mv4, mv6, mv9, mv10, mv13, mv14, mv15, mv17, mv18, r_getR0, r_getR1, r_getR2, r_getR4, r_getR6, r_getR9, r_getR10, r_getR13, r_getR14, r_getR15, r_getR17, r_getR18, r_getJ, r_putJ W, r_getI3, r_getI5, r_getI7, r_getI8, r_getI11, r_getI16, r_getI19, r_getI20, r_getI21, r_getI22, r_getI23, r_getI24, r_getI25, r_getI26, r_getI27, r_getI28, r_putI3 W, r_putI5 W, r_putI7 W, r_putI8 W, r_putI11 W, r_putI16 W, r_putI19 W, r_putI20 W, r_putI21 W, r_putI22 W, r_putI23 W, r_putI24 W, r_putI25 W, r_putI26 W, r_putI27 W, r_putI28 W, Sum.map_inl, Sum.map_inr, id_eq, eJ19 W, eJ20 W, l_X4_frees_B2 W]
def P_X4_thrown (h0 : MS) : Option Int32 :=
  Option.bind (pgI h0 8) fun v1 =>
  some v1
set_option maxHeartbeats 1000000 in
theorem e_X4_thrown {m : Nat} {ad : Nat → Nat} {h : HH} (W : WFM m ad h) (h0 : MS)  : F_X4_thrown m (pu m ad h0 h) = P_X4_thrown h0 := by
  unfold F_X4_thrown P_X4_thrown
  simp only [bind_pu, b2_pu, bind_map9, map_bind9, map_pb29, map_ite9, map_some9, map_none9, bind_some9, r_isO, r_aldI W, r_astI W, mv0, mv1, mv2, mv4, mv6, mv9, mv10, mv13, mv14, mv15, mv17, mv18, r_getR0, r_getR1, r_getR2, r_getR4, r_getR6, r_getR9, r_getR10, r_getR13, r_getR14, r_getR15, r_getR17, r_getR18, r_getJ, r_putJ W, r_getI3, r_getI5, r_getI7, r_getI8, r_getI11, r_getI16, r_getI19, r_getI20, r_getI21, r_getI22, r_getI23, r_getI24, r_getI25, r_getI26, r_getI27, r_getI28, r_putI3 W, r_putI5 W, r_putI7 W, r_putI8 W, r_putI11 W, r_putI16 W, r_putI19 W, r_putI20 W, r_putI21 W, r_putI22 W, r_putI23 W, r_putI24 W, r_putI25 W, r_putI26 W, r_putI27 W, r_putI28 W, Sum.map_inl, Sum.map_inr, id_eq, eJ19 W, eJ20 W]
def P_X4_copies_B3 (a1 : Nat) (a2 : Int32) (a3 : Nat) (a4 : Int32) (x4_1 : Int32) (h_1 : MS) : Option ((Int32 × MS) ⊕ MS) :=
  if (194 : Int32) ≤ x4_1 then (
    some (.inr h_1)
  ) else (
    Option.bind (rd h_1 a1 (a2 + x4_1)) fun v3 =>
    Option.bind (wr h_1 a3 (a4 + x4_1) v3) fun h4 =>
    some (.inl ((x4_1 + (1 : Int32)), h4))
  )
set_option maxHeartbeats 1000000 in
theorem e_X4_copies_B3 {m : Nat} {ad : Nat → Nat} {h : HH} (W : WFM m ad h) (a1 : Nat) (a2 : Int32) (a3 : Nat) (a4 : Int32) (x4_1 : Int32) (h_1 : MS) (va1 : a1 ∈ mvl) (va3 : a3 ∈ mvl) : F_X4_copies_B3 (some (ad a1)) a2 (some (ad a3)) a4 x4_1 (pu m ad h_1 h) = Option.map (Sum.map (fun q => (q.1, pu m ad q.2 h)) (fun S => pu m ad S h)) (P_X4_copies_B3 a1 a2 a3 a4 x4_1 h_1) := by
  unfold F_X4_copies_B3 P_X4_copies_B3
  simp only [bind_pu, b2_pu, bind_map9, map_bind9, map_pb29, map_ite9, map_some9, map_none9, bind_some9, r_isO, r_aldI W, r_astI W, mv0, mv1, mv2, mv4, mv6, mv9, mv10, mv13, mv14, mv15, mv17, mv18, r_getR0, r_getR1, r_getR2, r_getR4, r_getR6, r_getR9, r_getR10, r_getR13, r_getR14, r_getR15, r_getR17, r_getR18, r_getJ, r_putJ W, r_getI3, r_getI5, r_getI7, r_getI8, r_getI11, r_getI16, r_getI19, r_getI20, r_getI21, r_getI22, r_getI23, r_getI24, r_getI25, r_getI26, r_getI27, r_getI28, r_putI3 W, r_putI5 W, r_putI7 W, r_putI8 W, r_putI11 W, r_putI16 W, r_putI19 W, r_putI20 W, r_putI21 W, r_putI22 W, r_putI23 W, r_putI24 W, r_putI25 W, r_putI26 W, r_putI27 W, r_putI28 W, Sum.map_inl, Sum.map_inr, id_eq, eJ19 W, eJ20 W, va1, va3]
theorem l_X4_copies_B3 {m : Nat} {ad : Nat → Nat} {h : HH} (W : WFM m ad h) (a1 : Nat) (a2 : Int32) (a3 : Nat) (a4 : Int32) (va1 : a1 ∈ mvl) (va3 : a3 ∈ mvl) (n : Nat) (x4_1 : Int32) (h_1 : MS) : lp (fun z => F_X4_copies_B3 (some (ad a1)) a2 (some (ad a3)) a4 z.1 z.2) n (x4_1, pu m ad h_1 h) = Option.map (fun S => pu m ad S h) (lp (fun z => P_X4_copies_B3 a1 a2 a3 a4 z.1 z.2) n (x4_1, h_1)) := by
  have := lp_map9 (B := fun z => F_X4_copies_B3 (some (ad a1)) a2 (some (ad a3)) a4 z.1 z.2) (B' := fun z => P_X4_copies_B3 a1 a2 a3 a4 z.1 z.2) (fun q => (q.1, pu m ad q.2 h)) (fun S => pu m ad S h) (fun z => e_X4_copies_B3 W a1 a2 a3 a4 z.1 z.2 va1 va3) n (x4_1, h_1)
  exact this
def P_X4_copies (a1 : Nat) (a2 : Int32) (a3 : Nat) (a4 : Int32) (h0 : MS) : Option MS :=
  Option.bind (lp (fun z => P_X4_copies_B3 a1 a2 a3 a4 z.1 z.2) 100000 ((0 : Int32), h0)) fun h5 =>
  some h5
set_option maxHeartbeats 1000000 in
theorem e_X4_copies {m : Nat} {ad : Nat → Nat} {h : HH} (W : WFM m ad h) (a1 : Nat) (a2 : Int32) (a3 : Nat) (a4 : Int32) (h0 : MS) (va1 : a1 ∈ mvl) (va3 : a3 ∈ mvl) : F_X4_copies (some (ad a1)) a2 (some (ad a3)) a4 (pu m ad h0 h) = Option.map ((fun S => pu m ad S h)) (P_X4_copies a1 a2 a3 a4 h0) := by
  unfold F_X4_copies P_X4_copies
  simp only [bind_pu, b2_pu, bind_map9, map_bind9, map_pb29, map_ite9, map_some9, map_none9, bind_some9, r_isO, r_aldI W, r_astI W, mv0, mv1, mv2, mv4, mv6, mv9, mv10, mv13, mv14, mv15, mv17, mv18, r_getR0, r_getR1, r_getR2, r_getR4, r_getR6, r_getR9, r_getR10, r_getR13, r_getR14, r_getR15, r_getR17, r_getR18, r_getJ, r_putJ W, r_getI3, r_getI5, r_getI7, r_getI8, r_getI11, r_getI16, r_getI19, r_getI20, r_getI21, r_getI22, r_getI23, r_getI24, r_getI25, r_getI26, r_getI27, r_getI28, r_putI3 W, r_putI5 W, r_putI7 W, r_putI8 W, r_putI11 W, r_putI16 W, r_putI19 W, r_putI20 W, r_putI21 W, r_putI22 W, r_putI23 W, r_putI24 W, r_putI25 W, r_putI26 W, r_putI27 W, r_putI28 W, Sum.map_inl, Sum.map_inr, id_eq, eJ19 W, eJ20 W, l_X4_copies_B3 W, va1, va3]
def P_X4_begins (h0 : MS) : Option MS :=
  Option.bind (piI h0 8 (0 : Int32)) fun h1 =>
  Option.bind (P_X4_copies 0 (0 : Int32) 1 (0 : Int32) h1) fun h4 =>
  some h4
set_option maxHeartbeats 1000000 in
theorem e_X4_begins {m : Nat} {ad : Nat → Nat} {h : HH} (W : WFM m ad h) (h0 : MS)  : F_X4_begins m (pu m ad h0 h) = Option.map ((fun S => pu m ad S h)) (P_X4_begins h0) := by
  unfold F_X4_begins P_X4_begins
  simp only [bind_pu, b2_pu, bind_map9, map_bind9, map_pb29, map_ite9, map_some9, map_none9, bind_some9, r_isO, r_aldI W, r_astI W, mv0, mv1, mv2, mv4, mv6, mv9, mv10, mv13, mv14, mv15, mv17, mv18, r_getR0, r_getR1, r_getR2, r_getR4, r_getR6, r_getR9, r_getR10, r_getR13, r_getR14, r_getR15, r_getR17, r_getR18, r_getJ, r_putJ W, r_getI3, r_getI5, r_getI7, r_getI8, r_getI11, r_getI16, r_getI19, r_getI20, r_getI21, r_getI22, r_getI23, r_getI24, r_getI25, r_getI26, r_getI27, r_getI28, r_putI3 W, r_putI5 W, r_putI7 W, r_putI8 W, r_putI11 W, r_putI16 W, r_putI19 W, r_putI20 W, r_putI21 W, r_putI22 W, r_putI23 W, r_putI24 W, r_putI25 W, r_putI26 W, r_putI27 W, r_putI28 W, Sum.map_inl, Sum.map_inr, id_eq, eJ19 W, eJ20 W, e_X4_copies W]
def P_X4_fails (a1 : Int32) (h0 : MS) : Option (Int32 × MS) :=
  Option.bind (piI h0 8 a1) fun h1 =>
  some ((0 : Int32), h1)
set_option maxHeartbeats 1000000 in
theorem e_X4_fails {m : Nat} {ad : Nat → Nat} {h : HH} (W : WFM m ad h) (a1 : Int32) (h0 : MS)  : F_X4_fails m a1 (pu m ad h0 h) = Option.map ((fun q => (q.1, pu m ad q.2 h))) (P_X4_fails a1 h0) := by
  unfold F_X4_fails P_X4_fails
  simp only [bind_pu, b2_pu, bind_map9, map_bind9, map_pb29, map_ite9, map_some9, map_none9, bind_some9, r_isO, r_aldI W, r_astI W, mv0, mv1, mv2, mv4, mv6, mv9, mv10, mv13, mv14, mv15, mv17, mv18, r_getR0, r_getR1, r_getR2, r_getR4, r_getR6, r_getR9, r_getR10, r_getR13, r_getR14, r_getR15, r_getR17, r_getR18, r_getJ, r_putJ W, r_getI3, r_getI5, r_getI7, r_getI8, r_getI11, r_getI16, r_getI19, r_getI20, r_getI21, r_getI22, r_getI23, r_getI24, r_getI25, r_getI26, r_getI27, r_getI28, r_putI3 W, r_putI5 W, r_putI7 W, r_putI8 W, r_putI11 W, r_putI16 W, r_putI19 W, r_putI20 W, r_putI21 W, r_putI22 W, r_putI23 W, r_putI24 W, r_putI25 W, r_putI26 W, r_putI27 W, r_putI28 W, Sum.map_inl, Sum.map_inr, id_eq, eJ19 W, eJ20 W]
def P_X4_records_T49 (h_49 : MS) : Option MS :=

  Option.bind (pgI h_49 5) fun v4 =>
  Option.bind (P_X4_copies 1 (0 : Int32) 4 ((194 : Int32) * v4) h_49) fun h5 =>
  Option.bind (pgI h5 5) fun v6 =>
  Option.bind (piI h5 5 (v6 + (1 : Int32))) fun h7 =>
  some h7
set_option maxHeartbeats 1000000 in
theorem e_X4_records_T49 {m : Nat} {ad : Nat → Nat} {h : HH} (W : WFM m ad h) (h_49 : MS)  : F_X4_records_T49 m (pu m ad h_49 h) = Option.map ((fun S => pu m ad S h)) (P_X4_records_T49 h_49) := by
  unfold F_X4_records_T49 P_X4_records_T49
  simp only [bind_pu, b2_pu, bind_map9, map_bind9, map_pb29, map_ite9, map_some9, map_none9, bind_some9, r_isO, r_aldI W, r_astI W, mv0, mv1, mv2, mv4, mv6, mv9, mv10, mv13, mv14, mv15, mv17, mv18, r_getR0, r_getR1, r_getR2, r_getR4, r_getR6, r_getR9, r_getR10, r_getR13, r_getR14, r_getR15, r_getR17, r_getR18, r_getJ, r_putJ W, r_getI3, r_getI5, r_getI7, r_getI8, r_getI11, r_getI16, r_getI19, r_getI20, r_getI21, r_getI22, r_getI23, r_getI24, r_getI25, r_getI26, r_getI27, r_getI28, r_putI3 W, r_putI5 W, r_putI7 W, r_putI8 W, r_putI11 W, r_putI16 W, r_putI19 W, r_putI20 W, r_putI21 W, r_putI22 W, r_putI23 W, r_putI24 W, r_putI25 W, r_putI26 W, r_putI27 W, r_putI28 W, Sum.map_inl, Sum.map_inr, id_eq, eJ19 W, eJ20 W, e_X4_copies W]
def P_X4_records_B10 (x1_9 : Int32) (h_9 : MS) : Option ((Int32 × MS) ⊕ MS) :=
  if (582 : Int32) ≤ x1_9 then (
    some (.inr h_9)
  ) else (
    Option.bind (rd h_9 4 (x1_9 + (194 : Int32))) fun v13 =>
    Option.bind (wr h_9 4 x1_9 v13) fun h14 =>
    some (.inl ((x1_9 + (1 : Int32)), h14))
  )
set_option maxHeartbeats 1000000 in
theorem e_X4_records_B10 {m : Nat} {ad : Nat → Nat} {h : HH} (W : WFM m ad h) (x1_9 : Int32) (h_9 : MS)  : F_X4_records_B10 m x1_9 (pu m ad h_9 h) = Option.map (Sum.map (fun q => (q.1, pu m ad q.2 h)) (fun S => pu m ad S h)) (P_X4_records_B10 x1_9 h_9) := by
  unfold F_X4_records_B10 P_X4_records_B10
  simp only [bind_pu, b2_pu, bind_map9, map_bind9, map_pb29, map_ite9, map_some9, map_none9, bind_some9, r_isO, r_aldI W, r_astI W, mv0, mv1, mv2, mv4, mv6, mv9, mv10, mv13, mv14, mv15, mv17, mv18, r_getR0, r_getR1, r_getR2, r_getR4, r_getR6, r_getR9, r_getR10, r_getR13, r_getR14, r_getR15, r_getR17, r_getR18, r_getJ, r_putJ W, r_getI3, r_getI5, r_getI7, r_getI8, r_getI11, r_getI16, r_getI19, r_getI20, r_getI21, r_getI22, r_getI23, r_getI24, r_getI25, r_getI26, r_getI27, r_getI28, r_putI3 W, r_putI5 W, r_putI7 W, r_putI8 W, r_putI11 W, r_putI16 W, r_putI19 W, r_putI20 W, r_putI21 W, r_putI22 W, r_putI23 W, r_putI24 W, r_putI25 W, r_putI26 W, r_putI27 W, r_putI28 W, Sum.map_inl, Sum.map_inr, id_eq, eJ19 W, eJ20 W]
theorem l_X4_records_B10 {m : Nat} {ad : Nat → Nat} {h : HH} (W : WFM m ad h)   (n : Nat) (x1_9 : Int32) (h_9 : MS) : lp (fun z => F_X4_records_B10 m z.1 z.2) n (x1_9, pu m ad h_9 h) = Option.map (fun S => pu m ad S h) (lp (fun z => P_X4_records_B10  z.1 z.2) n (x1_9, h_9)) := by
  have := lp_map9 (B := fun z => F_X4_records_B10 m z.1 z.2) (B' := fun z => P_X4_records_B10  z.1 z.2) (fun q => (q.1, pu m ad q.2 h)) (fun S => pu m ad S h) (fun z => e_X4_records_B10 W  z.1 z.2 ) n (x1_9, h_9)
  exact this
def P_X4_records (h0 : MS) : Option MS :=
  Option.bind (pgI h0 5) fun v1 =>
  if v1 = (4 : Int32) then (
    Option.bind (lp (fun z => P_X4_records_B10 z.1 z.2) 100000 ((0 : Int32), h0)) fun h15 =>
    Option.bind (pgI h15 5) fun v16 =>
    Option.bind (piI h15 5 (v16 - (1 : Int32))) fun h17 =>
    P_X4_records_T49  h17
  ) else (
    P_X4_records_T49  h0
  )
set_option maxHeartbeats 1000000 in
theorem e_X4_records {m : Nat} {ad : Nat → Nat} {h : HH} (W : WFM m ad h) (h0 : MS)  : F_X4_records m (pu m ad h0 h) = Option.map ((fun S => pu m ad S h)) (P_X4_records h0) := by
  unfold F_X4_records P_X4_records
  simp only [bind_pu, b2_pu, bind_map9, map_bind9, map_pb29, map_ite9, map_some9, map_none9, bind_some9, r_isO, r_aldI W, r_astI W, mv0, mv1, mv2, mv4, mv6, mv9, mv10, mv13, mv14, mv15, mv17, mv18, r_getR0, r_getR1, r_getR2, r_getR4, r_getR6, r_getR9, r_getR10, r_getR13, r_getR14, r_getR15, r_getR17, r_getR18, r_getJ, r_putJ W, r_getI3, r_getI5, r_getI7, r_getI8, r_getI11, r_getI16, r_getI19, r_getI20, r_getI21, r_getI22, r_getI23, r_getI24, r_getI25, r_getI26, r_getI27, r_getI28, r_putI3 W, r_putI5 W, r_putI7 W, r_putI8 W, r_putI11 W, r_putI16 W, r_putI19 W, r_putI20 W, r_putI21 W, r_putI22 W, r_putI23 W, r_putI24 W, r_putI25 W, r_putI26 W, r_putI27 W, r_putI28 W, Sum.map_inl, Sum.map_inr, id_eq, eJ19 W, eJ20 W, l_X4_records_B10 W, e_X4_records_T49 W]
def P_X4_ends_T12 (a1 : Int32) (h_12 : MS) : Option (Int32 × MS) :=

  Option.bind (P_X4_copies 1 (0 : Int32) 0 (0 : Int32) h_12) fun h3 =>
  pb2 (P_X4_fails (if a1 = (-11 : Int32) then (1 : Int32) else (2 : Int32)) h3) fun v7 h6 =>
  some (v7, h6)
set_option maxHeartbeats 1000000 in
theorem e_X4_ends_T12 {m : Nat} {ad : Nat → Nat} {h : HH} (W : WFM m ad h) (a1 : Int32) (h_12 : MS)  : F_X4_ends_T12 m a1 (pu m ad h_12 h) = Option.map ((fun q => (q.1, pu m ad q.2 h))) (P_X4_ends_T12 a1 h_12) := by
  unfold F_X4_ends_T12 P_X4_ends_T12
  simp only [bind_pu, b2_pu, bind_map9, map_bind9, map_pb29, map_ite9, map_some9, map_none9, bind_some9, r_isO, r_aldI W, r_astI W, mv0, mv1, mv2, mv4, mv6, mv9, mv10, mv13, mv14, mv15, mv17, mv18, r_getR0, r_getR1, r_getR2, r_getR4, r_getR6, r_getR9, r_getR10, r_getR13, r_getR14, r_getR15, r_getR17, r_getR18, r_getJ, r_putJ W, r_getI3, r_getI5, r_getI7, r_getI8, r_getI11, r_getI16, r_getI19, r_getI20, r_getI21, r_getI22, r_getI23, r_getI24, r_getI25, r_getI26, r_getI27, r_getI28, r_putI3 W, r_putI5 W, r_putI7 W, r_putI8 W, r_putI11 W, r_putI16 W, r_putI19 W, r_putI20 W, r_putI21 W, r_putI22 W, r_putI23 W, r_putI24 W, r_putI25 W, r_putI26 W, r_putI27 W, r_putI28 W, Sum.map_inl, Sum.map_inr, id_eq, eJ19 W, eJ20 W, e_X4_copies W, e_X4_fails W]
def P_X4_ends (a1 : Int32) (h0 : MS) : Option (Int32 × MS) :=
  if a1 = (-11 : Int32) then (
    P_X4_ends_T12 a1  h0
  ) else (
    if a1 = (-12 : Int32) then (
      P_X4_ends_T12 a1  h0
    ) else (
      Option.bind (P_X4_records h0) fun h11 =>
      some (a1, h11)
    )
  )
set_option maxHeartbeats 1000000 in
theorem e_X4_ends {m : Nat} {ad : Nat → Nat} {h : HH} (W : WFM m ad h) (a1 : Int32) (h0 : MS)  : F_X4_ends m a1 (pu m ad h0 h) = Option.map ((fun q => (q.1, pu m ad q.2 h))) (P_X4_ends a1 h0) := by
  unfold F_X4_ends P_X4_ends
  simp only [bind_pu, b2_pu, bind_map9, map_bind9, map_pb29, map_ite9, map_some9, map_none9, bind_some9, r_isO, r_aldI W, r_astI W, mv0, mv1, mv2, mv4, mv6, mv9, mv10, mv13, mv14, mv15, mv17, mv18, r_getR0, r_getR1, r_getR2, r_getR4, r_getR6, r_getR9, r_getR10, r_getR13, r_getR14, r_getR15, r_getR17, r_getR18, r_getJ, r_putJ W, r_getI3, r_getI5, r_getI7, r_getI8, r_getI11, r_getI16, r_getI19, r_getI20, r_getI21, r_getI22, r_getI23, r_getI24, r_getI25, r_getI26, r_getI27, r_getI28, r_putI3 W, r_putI5 W, r_putI7 W, r_putI8 W, r_putI11 W, r_putI16 W, r_putI19 W, r_putI20 W, r_putI21 W, r_putI22 W, r_putI23 W, r_putI24 W, r_putI25 W, r_putI26 W, r_putI27 W, r_putI28 W, Sum.map_inl, Sum.map_inr, id_eq, eJ19 W, eJ20 W, e_X4_ends_T12 W, e_X4_records W]
def P_X4_carries_B3 (a1 : Nat) (a2 : Int32) (a3 : Nat) (a4 : Int32) (x4_1 : Int32) (h_1 : MS) : Option ((Int32 × MS) ⊕ MS) :=
  if (16 : Int32) ≤ x4_1 then (
    some (.inr h_1)
  ) else (
    Option.bind (rd h_1 a1 (a2 + x4_1)) fun v3 =>
    Option.bind (wr h_1 a3 (a4 + x4_1) v3) fun h4 =>
    some (.inl ((x4_1 + (1 : Int32)), h4))
  )
set_option maxHeartbeats 1000000 in
theorem e_X4_carries_B3 {m : Nat} {ad : Nat → Nat} {h : HH} (W : WFM m ad h) (a1 : Nat) (a2 : Int32) (a3 : Nat) (a4 : Int32) (x4_1 : Int32) (h_1 : MS) (va1 : a1 ∈ mvl) (va3 : a3 ∈ mvl) : F_X4_carries_B3 (some (ad a1)) a2 (some (ad a3)) a4 x4_1 (pu m ad h_1 h) = Option.map (Sum.map (fun q => (q.1, pu m ad q.2 h)) (fun S => pu m ad S h)) (P_X4_carries_B3 a1 a2 a3 a4 x4_1 h_1) := by
  unfold F_X4_carries_B3 P_X4_carries_B3
  simp only [bind_pu, b2_pu, bind_map9, map_bind9, map_pb29, map_ite9, map_some9, map_none9, bind_some9, r_isO, r_aldI W, r_astI W, mv0, mv1, mv2, mv4, mv6, mv9, mv10, mv13, mv14, mv15, mv17, mv18, r_getR0, r_getR1, r_getR2, r_getR4, r_getR6, r_getR9, r_getR10, r_getR13, r_getR14, r_getR15, r_getR17, r_getR18, r_getJ, r_putJ W, r_getI3, r_getI5, r_getI7, r_getI8, r_getI11, r_getI16, r_getI19, r_getI20, r_getI21, r_getI22, r_getI23, r_getI24, r_getI25, r_getI26, r_getI27, r_getI28, r_putI3 W, r_putI5 W, r_putI7 W, r_putI8 W, r_putI11 W, r_putI16 W, r_putI19 W, r_putI20 W, r_putI21 W, r_putI22 W, r_putI23 W, r_putI24 W, r_putI25 W, r_putI26 W, r_putI27 W, r_putI28 W, Sum.map_inl, Sum.map_inr, id_eq, eJ19 W, eJ20 W, va1, va3]
theorem l_X4_carries_B3 {m : Nat} {ad : Nat → Nat} {h : HH} (W : WFM m ad h) (a1 : Nat) (a2 : Int32) (a3 : Nat) (a4 : Int32) (va1 : a1 ∈ mvl) (va3 : a3 ∈ mvl) (n : Nat) (x4_1 : Int32) (h_1 : MS) : lp (fun z => F_X4_carries_B3 (some (ad a1)) a2 (some (ad a3)) a4 z.1 z.2) n (x4_1, pu m ad h_1 h) = Option.map (fun S => pu m ad S h) (lp (fun z => P_X4_carries_B3 a1 a2 a3 a4 z.1 z.2) n (x4_1, h_1)) := by
  have := lp_map9 (B := fun z => F_X4_carries_B3 (some (ad a1)) a2 (some (ad a3)) a4 z.1 z.2) (B' := fun z => P_X4_carries_B3 a1 a2 a3 a4 z.1 z.2) (fun q => (q.1, pu m ad q.2 h)) (fun S => pu m ad S h) (fun z => e_X4_carries_B3 W a1 a2 a3 a4 z.1 z.2 va1 va3) n (x4_1, h_1)
  exact this
def P_X4_carries (a1 : Nat) (a2 : Int32) (a3 : Nat) (a4 : Int32) (h0 : MS) : Option MS :=
  Option.bind (lp (fun z => P_X4_carries_B3 a1 a2 a3 a4 z.1 z.2) 100000 ((0 : Int32), h0)) fun h5 =>
  some h5
set_option maxHeartbeats 1000000 in
theorem e_X4_carries {m : Nat} {ad : Nat → Nat} {h : HH} (W : WFM m ad h) (a1 : Nat) (a2 : Int32) (a3 : Nat) (a4 : Int32) (h0 : MS) (va1 : a1 ∈ mvl) (va3 : a3 ∈ mvl) : F_X4_carries (some (ad a1)) a2 (some (ad a3)) a4 (pu m ad h0 h) = Option.map ((fun S => pu m ad S h)) (P_X4_carries a1 a2 a3 a4 h0) := by
  unfold F_X4_carries P_X4_carries
  simp only [bind_pu, b2_pu, bind_map9, map_bind9, map_pb29, map_ite9, map_some9, map_none9, bind_some9, r_isO, r_aldI W, r_astI W, mv0, mv1, mv2, mv4, mv6, mv9, mv10, mv13, mv14, mv15, mv17, mv18, r_getR0, r_getR1, r_getR2, r_getR4, r_getR6, r_getR9, r_getR10, r_getR13, r_getR14, r_getR15, r_getR17, r_getR18, r_getJ, r_putJ W, r_getI3, r_getI5, r_getI7, r_getI8, r_getI11, r_getI16, r_getI19, r_getI20, r_getI21, r_getI22, r_getI23, r_getI24, r_getI25, r_getI26, r_getI27, r_getI28, r_putI3 W, r_putI5 W, r_putI7 W, r_putI8 W, r_putI11 W, r_putI16 W, r_putI19 W, r_putI20 W, r_putI21 W, r_putI22 W, r_putI23 W, r_putI24 W, r_putI25 W, r_putI26 W, r_putI27 W, r_putI28 W, Sum.map_inl, Sum.map_inr, id_eq, eJ19 W, eJ20 W, l_X4_carries_B3 W, va1, va3]
def P_X4_tightens_B9 (a1 : Nat) (a2 : Int32) (x2_1 : Int32) (x3_3 : Int32) (h_3 : MS) : Option ((Int32 × MS) ⊕ MS) :=
  if (16 : Int32) ≤ x3_3 then (
    some (.inr h_3)
  ) else (
    Option.bind (rd h_3 a1 (a2 + x3_3)) fun v5 =>
    Option.bind (rd h_3 a1 ((a2 + ((4 : Int32) * (x3_3 / (4 : Int32)))) + x2_1)) fun v6 =>
    Option.bind (rd h_3 a1 ((a2 + ((4 : Int32) * x2_1)) + (x3_3 - x3_3 / (4 : Int32) * (4 : Int32)))) fun v7 =>
    Option.bind (wr h_3 a1 (a2 + x3_3) (F_X4_less v5 (F_X4_sum v6 v7))) fun h8 =>
    some (.inl ((x3_3 + (1 : Int32)), h8))
  )
set_option maxHeartbeats 1000000 in
theorem e_X4_tightens_B9 {m : Nat} {ad : Nat → Nat} {h : HH} (W : WFM m ad h) (a1 : Nat) (a2 : Int32) (x2_1 : Int32) (x3_3 : Int32) (h_3 : MS) (va1 : a1 ∈ mvl) : F_X4_tightens_B9 (some (ad a1)) a2 x2_1 x3_3 (pu m ad h_3 h) = Option.map (Sum.map (fun q => (q.1, pu m ad q.2 h)) (fun S => pu m ad S h)) (P_X4_tightens_B9 a1 a2 x2_1 x3_3 h_3) := by
  unfold F_X4_tightens_B9 P_X4_tightens_B9
  simp only [bind_pu, b2_pu, bind_map9, map_bind9, map_pb29, map_ite9, map_some9, map_none9, bind_some9, r_isO, r_aldI W, r_astI W, mv0, mv1, mv2, mv4, mv6, mv9, mv10, mv13, mv14, mv15, mv17, mv18, r_getR0, r_getR1, r_getR2, r_getR4, r_getR6, r_getR9, r_getR10, r_getR13, r_getR14, r_getR15, r_getR17, r_getR18, r_getJ, r_putJ W, r_getI3, r_getI5, r_getI7, r_getI8, r_getI11, r_getI16, r_getI19, r_getI20, r_getI21, r_getI22, r_getI23, r_getI24, r_getI25, r_getI26, r_getI27, r_getI28, r_putI3 W, r_putI5 W, r_putI7 W, r_putI8 W, r_putI11 W, r_putI16 W, r_putI19 W, r_putI20 W, r_putI21 W, r_putI22 W, r_putI23 W, r_putI24 W, r_putI25 W, r_putI26 W, r_putI27 W, r_putI28 W, Sum.map_inl, Sum.map_inr, id_eq, eJ19 W, eJ20 W, va1]
theorem l_X4_tightens_B9 {m : Nat} {ad : Nat → Nat} {h : HH} (W : WFM m ad h) (a1 : Nat) (a2 : Int32) (x2_1 : Int32) (va1 : a1 ∈ mvl) (n : Nat) (x3_3 : Int32) (h_3 : MS) : lp (fun z => F_X4_tightens_B9 (some (ad a1)) a2 x2_1 z.1 z.2) n (x3_3, pu m ad h_3 h) = Option.map (fun S => pu m ad S h) (lp (fun z => P_X4_tightens_B9 a1 a2 x2_1 z.1 z.2) n (x3_3, h_3)) := by
  have := lp_map9 (B := fun z => F_X4_tightens_B9 (some (ad a1)) a2 x2_1 z.1 z.2) (B' := fun z => P_X4_tightens_B9 a1 a2 x2_1 z.1 z.2) (fun q => (q.1, pu m ad q.2 h)) (fun S => pu m ad S h) (fun z => e_X4_tightens_B9 W a1 a2 x2_1 z.1 z.2 va1) n (x3_3, h_3)
  exact this
def P_X4_tightens_B2 (a1 : Nat) (a2 : Int32) (x2_1 : Int32) (h_1 : MS) : Option ((Int32 × MS) ⊕ MS) :=
  if (4 : Int32) ≤ x2_1 then (
    some (.inr h_1)
  ) else (
    Option.bind (lp (fun z => P_X4_tightens_B9 a1 a2 x2_1 z.1 z.2) 100000 ((0 : Int32), h_1)) fun h9 =>
    some (.inl ((x2_1 + (1 : Int32)), h9))
  )
set_option maxHeartbeats 1000000 in
theorem e_X4_tightens_B2 {m : Nat} {ad : Nat → Nat} {h : HH} (W : WFM m ad h) (a1 : Nat) (a2 : Int32) (x2_1 : Int32) (h_1 : MS) (va1 : a1 ∈ mvl) : F_X4_tightens_B2 (some (ad a1)) a2 x2_1 (pu m ad h_1 h) = Option.map (Sum.map (fun q => (q.1, pu m ad q.2 h)) (fun S => pu m ad S h)) (P_X4_tightens_B2 a1 a2 x2_1 h_1) := by
  unfold F_X4_tightens_B2 P_X4_tightens_B2
  simp only [bind_pu, b2_pu, bind_map9, map_bind9, map_pb29, map_ite9, map_some9, map_none9, bind_some9, r_isO, r_aldI W, r_astI W, mv0, mv1, mv2, mv4, mv6, mv9, mv10, mv13, mv14, mv15, mv17, mv18, r_getR0, r_getR1, r_getR2, r_getR4, r_getR6, r_getR9, r_getR10, r_getR13, r_getR14, r_getR15, r_getR17, r_getR18, r_getJ, r_putJ W, r_getI3, r_getI5, r_getI7, r_getI8, r_getI11, r_getI16, r_getI19, r_getI20, r_getI21, r_getI22, r_getI23, r_getI24, r_getI25, r_getI26, r_getI27, r_getI28, r_putI3 W, r_putI5 W, r_putI7 W, r_putI8 W, r_putI11 W, r_putI16 W, r_putI19 W, r_putI20 W, r_putI21 W, r_putI22 W, r_putI23 W, r_putI24 W, r_putI25 W, r_putI26 W, r_putI27 W, r_putI28 W, Sum.map_inl, Sum.map_inr, id_eq, eJ19 W, eJ20 W, l_X4_tightens_B9 W, va1]
theorem l_X4_tightens_B2 {m : Nat} {ad : Nat → Nat} {h : HH} (W : WFM m ad h) (a1 : Nat) (a2 : Int32) (va1 : a1 ∈ mvl) (n : Nat) (x2_1 : Int32) (h_1 : MS) : lp (fun z => F_X4_tightens_B2 (some (ad a1)) a2 z.1 z.2) n (x2_1, pu m ad h_1 h) = Option.map (fun S => pu m ad S h) (lp (fun z => P_X4_tightens_B2 a1 a2 z.1 z.2) n (x2_1, h_1)) := by
  have := lp_map9 (B := fun z => F_X4_tightens_B2 (some (ad a1)) a2 z.1 z.2) (B' := fun z => P_X4_tightens_B2 a1 a2 z.1 z.2) (fun q => (q.1, pu m ad q.2 h)) (fun S => pu m ad S h) (fun z => e_X4_tightens_B2 W a1 a2 z.1 z.2 va1) n (x2_1, h_1)
  exact this
def P_X4_tightens_B77 (a1 : Nat) (a2 : Int32) (x2_13 : Int32) (x3_13 : Int32) (h12 : MS) : Option ((Int32 × Int32) ⊕ Int32) :=
  if (4 : Int32) ≤ x3_13 then (
    some (.inr x2_13)
  ) else (
    if x2_13 = 0 then (
      some (.inl ((0 : Int32), (x3_13 + (1 : Int32))))
    ) else (
      Option.bind (rd h12 a1 (a2 + ((5 : Int32) * x3_13))) fun v16 =>
      some (.inl ((if v16 < 0 then (0 : Int32) else (1 : Int32)), (x3_13 + (1 : Int32))))
    )
  )
set_option maxHeartbeats 1000000 in
theorem e_X4_tightens_B77 {m : Nat} {ad : Nat → Nat} {h : HH} (W : WFM m ad h) (a1 : Nat) (a2 : Int32) (x2_13 : Int32) (x3_13 : Int32) (h12 : MS) (va1 : a1 ∈ mvl) : F_X4_tightens_B77 (some (ad a1)) a2 x2_13 x3_13 (pu m ad h12 h) = P_X4_tightens_B77 a1 a2 x2_13 x3_13 h12 := by
  unfold F_X4_tightens_B77 P_X4_tightens_B77
  simp only [bind_pu, b2_pu, bind_map9, map_bind9, map_pb29, map_ite9, map_some9, map_none9, bind_some9, r_isO, r_aldI W, r_astI W, mv0, mv1, mv2, mv4, mv6, mv9, mv10, mv13, mv14, mv15, mv17, mv18, r_getR0, r_getR1, r_getR2, r_getR4, r_getR6, r_getR9, r_getR10, r_getR13, r_getR14, r_getR15, r_getR17, r_getR18, r_getJ, r_putJ W, r_getI3, r_getI5, r_getI7, r_getI8, r_getI11, r_getI16, r_getI19, r_getI20, r_getI21, r_getI22, r_getI23, r_getI24, r_getI25, r_getI26, r_getI27, r_getI28, r_putI3 W, r_putI5 W, r_putI7 W, r_putI8 W, r_putI11 W, r_putI16 W, r_putI19 W, r_putI20 W, r_putI21 W, r_putI22 W, r_putI23 W, r_putI24 W, r_putI25 W, r_putI26 W, r_putI27 W, r_putI28 W, Sum.map_inl, Sum.map_inr, id_eq, eJ19 W, eJ20 W, va1]
def P_X4_tightens (a1 : Nat) (a2 : Int32) (h0 : MS) : Option (Int32 × MS) :=
  Option.bind (lp (fun z => P_X4_tightens_B2 a1 a2 z.1 z.2) 100000 ((0 : Int32), h0)) fun h12 =>
  Option.bind (lp (fun z => P_X4_tightens_B77 a1 a2 z.1 z.2 h12) 100000 ((1 : Int32), (0 : Int32))) fun v18 =>
  Option.bind (okZ v18) fun _ =>
  some (v18, h12)
set_option maxHeartbeats 1000000 in
theorem e_X4_tightens {m : Nat} {ad : Nat → Nat} {h : HH} (W : WFM m ad h) (a1 : Nat) (a2 : Int32) (h0 : MS) (va1 : a1 ∈ mvl) : F_X4_tightens (some (ad a1)) a2 (pu m ad h0 h) = Option.map ((fun q => (q.1, pu m ad q.2 h))) (P_X4_tightens a1 a2 h0) := by
  unfold F_X4_tightens P_X4_tightens
  simp only [bind_pu, b2_pu, bind_map9, map_bind9, map_pb29, map_ite9, map_some9, map_none9, bind_some9, r_isO, r_aldI W, r_astI W, mv0, mv1, mv2, mv4, mv6, mv9, mv10, mv13, mv14, mv15, mv17, mv18, r_getR0, r_getR1, r_getR2, r_getR4, r_getR6, r_getR9, r_getR10, r_getR13, r_getR14, r_getR15, r_getR17, r_getR18, r_getJ, r_putJ W, r_getI3, r_getI5, r_getI7, r_getI8, r_getI11, r_getI16, r_getI19, r_getI20, r_getI21, r_getI22, r_getI23, r_getI24, r_getI25, r_getI26, r_getI27, r_getI28, r_putI3 W, r_putI5 W, r_putI7 W, r_putI8 W, r_putI11 W, r_putI16 W, r_putI19 W, r_putI20 W, r_putI21 W, r_putI22 W, r_putI23 W, r_putI24 W, r_putI25 W, r_putI26 W, r_putI27 W, r_putI28 W, Sum.map_inl, Sum.map_inr, id_eq, eJ19 W, eJ20 W, l_X4_tightens_B2 W, e_X4_tightens_B77 W, va1]
def P_X4_looks (h0 : MS) : Option (Int32 × MS) :=

  Option.bind (P_X4_carries 0 (0 : Int32) 9 (0 : Int32) h0) fun h3 =>
  pb2 (P_X4_tightens 9 (0 : Int32) h3) fun v6 h5 =>
  Option.bind (okZ v6) fun _ =>
  some (v6, h5)
set_option maxHeartbeats 1000000 in
theorem e_X4_looks {m : Nat} {ad : Nat → Nat} {h : HH} (W : WFM m ad h) (h0 : MS)  : F_X4_looks m (pu m ad h0 h) = Option.map ((fun q => (q.1, pu m ad q.2 h))) (P_X4_looks h0) := by
  unfold F_X4_looks P_X4_looks
  simp only [bind_pu, b2_pu, bind_map9, map_bind9, map_pb29, map_ite9, map_some9, map_none9, bind_some9, r_isO, r_aldI W, r_astI W, mv0, mv1, mv2, mv4, mv6, mv9, mv10, mv13, mv14, mv15, mv17, mv18, r_getR0, r_getR1, r_getR2, r_getR4, r_getR6, r_getR9, r_getR10, r_getR13, r_getR14, r_getR15, r_getR17, r_getR18, r_getJ, r_putJ W, r_getI3, r_getI5, r_getI7, r_getI8, r_getI11, r_getI16, r_getI19, r_getI20, r_getI21, r_getI22, r_getI23, r_getI24, r_getI25, r_getI26, r_getI27, r_getI28, r_putI3 W, r_putI5 W, r_putI7 W, r_putI8 W, r_putI11 W, r_putI16 W, r_putI19 W, r_putI20 W, r_putI21 W, r_putI22 W, r_putI23 W, r_putI24 W, r_putI25 W, r_putI26 W, r_putI27 W, r_putI28 W, Sum.map_inl, Sum.map_inr, id_eq, eJ19 W, eJ20 W, e_X4_carries W, e_X4_tightens W]
def P_X4_isTooLate_B9 (k1_4 : Int32) (x2_4 : Int32) (x3_4 : Int32) (h2 : MS) : Option ((Int32 × Int32) ⊕ Int32) :=
  if (3 : Int32) ≤ x3_4 then (
    some (.inr x2_4)
  ) else (
    if x2_4 = 0 then (
      Option.bind (rd h2 9 ((12 : Int32) + x3_4)) fun v8 =>
      some (.inl ((if (-30 : Int32) ≤ v8 then (0 : Int32) else (1 : Int32)), (x3_4 + (1 : Int32))))
    ) else (
      some (.inl ((1 : Int32), (x3_4 + (1 : Int32))))
    )
  )
set_option maxHeartbeats 1000000 in
theorem e_X4_isTooLate_B9 {m : Nat} {ad : Nat → Nat} {h : HH} (W : WFM m ad h) (k1_4 : Int32) (x2_4 : Int32) (x3_4 : Int32) (h2 : MS)  : F_X4_isTooLate_B9 m k1_4 x2_4 x3_4 (pu m ad h2 h) = P_X4_isTooLate_B9 k1_4 x2_4 x3_4 h2 := by
  unfold F_X4_isTooLate_B9 P_X4_isTooLate_B9
  simp only [bind_pu, b2_pu, bind_map9, map_bind9, map_pb29, map_ite9, map_some9, map_none9, bind_some9, r_isO, r_aldI W, r_astI W, mv0, mv1, mv2, mv4, mv6, mv9, mv10, mv13, mv14, mv15, mv17, mv18, r_getR0, r_getR1, r_getR2, r_getR4, r_getR6, r_getR9, r_getR10, r_getR13, r_getR14, r_getR15, r_getR17, r_getR18, r_getJ, r_putJ W, r_getI3, r_getI5, r_getI7, r_getI8, r_getI11, r_getI16, r_getI19, r_getI20, r_getI21, r_getI22, r_getI23, r_getI24, r_getI25, r_getI26, r_getI27, r_getI28, r_putI3 W, r_putI5 W, r_putI7 W, r_putI8 W, r_putI11 W, r_putI16 W, r_putI19 W, r_putI20 W, r_putI21 W, r_putI22 W, r_putI23 W, r_putI24 W, r_putI25 W, r_putI26 W, r_putI27 W, r_putI28 W, Sum.map_inl, Sum.map_inr, id_eq, eJ19 W, eJ20 W]
def P_X4_isTooLate (h0 : MS) : Option (Int32 × MS) :=

  pb2 (P_X4_looks h0) fun v3 h2 =>
  Option.bind (lp (fun z => P_X4_isTooLate_B9 v3 z.1 z.2 h2) 100000 ((0 : Int32), (0 : Int32))) fun v10 =>
  some ((if v3 = 0 then (0 : Int32) else (if v10 = 0 then (0 : Int32) else (1 : Int32))), h2)
set_option maxHeartbeats 1000000 in
theorem e_X4_isTooLate {m : Nat} {ad : Nat → Nat} {h : HH} (W : WFM m ad h) (h0 : MS)  : F_X4_isTooLate m (pu m ad h0 h) = Option.map ((fun q => (q.1, pu m ad q.2 h))) (P_X4_isTooLate h0) := by
  unfold F_X4_isTooLate P_X4_isTooLate
  simp only [bind_pu, b2_pu, bind_map9, map_bind9, map_pb29, map_ite9, map_some9, map_none9, bind_some9, r_isO, r_aldI W, r_astI W, mv0, mv1, mv2, mv4, mv6, mv9, mv10, mv13, mv14, mv15, mv17, mv18, r_getR0, r_getR1, r_getR2, r_getR4, r_getR6, r_getR9, r_getR10, r_getR13, r_getR14, r_getR15, r_getR17, r_getR18, r_getJ, r_putJ W, r_getI3, r_getI5, r_getI7, r_getI8, r_getI11, r_getI16, r_getI19, r_getI20, r_getI21, r_getI22, r_getI23, r_getI24, r_getI25, r_getI26, r_getI27, r_getI28, r_putI3 W, r_putI5 W, r_putI7 W, r_putI8 W, r_putI11 W, r_putI16 W, r_putI19 W, r_putI20 W, r_putI21 W, r_putI22 W, r_putI23 W, r_putI24 W, r_putI25 W, r_putI26 W, r_putI27 W, r_putI28 W, Sum.map_inl, Sum.map_inr, id_eq, eJ19 W, eJ20 W, e_X4_isTooLate_B9 W, e_X4_looks W]
def P_X4_goTell_T80 (a1 : Int32) (a2 : Int32) (a3 : Int32) (t5_80 : Int32) (y0_80 : Int32) (y1_80 : Int32) (y2_80 : Nat) (h_80 : MS) : Option (Int32 × MS) :=
  Option.bind (wr h_80 y2_80 y1_80 y0_80) fun h8 =>
  pb2 (P_X4_isTooLate h8) fun v11 h10 =>
  some ((if v11 = 0 then (if t5_80 = 0 then (0 : Int32) else (1 : Int32)) else (-12 : Int32)), h10)
set_option maxHeartbeats 1000000 in
theorem e_X4_goTell_T80 {m : Nat} {ad : Nat → Nat} {h : HH} (W : WFM m ad h) (a1 : Int32) (a2 : Int32) (a3 : Int32) (t5_80 : Int32) (y0_80 : Int32) (y1_80 : Int32) (y2_80 : Nat) (h_80 : MS) (vy2_80 : y2_80 ∈ mvl) : F_X4_goTell_T80 m a1 a2 a3 t5_80 y0_80 y1_80 (some (ad y2_80)) (pu m ad h_80 h) = Option.map ((fun q => (q.1, pu m ad q.2 h))) (P_X4_goTell_T80 a1 a2 a3 t5_80 y0_80 y1_80 y2_80 h_80) := by
  unfold F_X4_goTell_T80 P_X4_goTell_T80
  simp only [bind_pu, b2_pu, bind_map9, map_bind9, map_pb29, map_ite9, map_some9, map_none9, bind_some9, r_isO, r_aldI W, r_astI W, mv0, mv1, mv2, mv4, mv6, mv9, mv10, mv13, mv14, mv15, mv17, mv18, r_getR0, r_getR1, r_getR2, r_getR4, r_getR6, r_getR9, r_getR10, r_getR13, r_getR14, r_getR15, r_getR17, r_getR18, r_getJ, r_putJ W, r_getI3, r_getI5, r_getI7, r_getI8, r_getI11, r_getI16, r_getI19, r_getI20, r_getI21, r_getI22, r_getI23, r_getI24, r_getI25, r_getI26, r_getI27, r_getI28, r_putI3 W, r_putI5 W, r_putI7 W, r_putI8 W, r_putI11 W, r_putI16 W, r_putI19 W, r_putI20 W, r_putI21 W, r_putI22 W, r_putI23 W, r_putI24 W, r_putI25 W, r_putI26 W, r_putI27 W, r_putI28 W, Sum.map_inl, Sum.map_inr, id_eq, eJ19 W, eJ20 W, e_X4_isTooLate W, vy2_80]
def P_X4_goTell (a1 : Int32) (a2 : Int32) (a3 : Int32) (h0 : MS) : Option (Int32 × MS) :=
  if (F_X4_arePair a1 a2) = 0 then (
    some ((-11 : Int32), h0)
  ) else (
    if (F_X4_in a3 (-9 : Int32) (if a1 = (3 : Int32) then (0 : Int32) else (9 : Int32))) = 0 then (
      some ((-11 : Int32), h0)
    ) else (
      Option.bind (rd h0 0 (((0 : Int32) + ((4 : Int32) * a1)) + a2)) fun v5 =>
      if (if v5 ≤ a3 then (0 : Int32) else (1 : Int32)) = 0 then (
        Option.bind (rd h0 0 (((0 : Int32) + ((4 : Int32) * a1)) + a2)) fun v16 =>
        P_X4_goTell_T80 a1 a2 a3 (if v5 ≤ a3 then (0 : Int32) else (1 : Int32)) v16 (((0 : Int32) + ((4 : Int32) * a1)) + a2) 0 h0
      ) else (
        P_X4_goTell_T80 a1 a2 a3 (if v5 ≤ a3 then (0 : Int32) else (1 : Int32)) a3 (((0 : Int32) + ((4 : Int32) * a1)) + a2) 0 h0
      )
    )
  )
set_option maxHeartbeats 1000000 in
theorem e_X4_goTell {m : Nat} {ad : Nat → Nat} {h : HH} (W : WFM m ad h) (a1 : Int32) (a2 : Int32) (a3 : Int32) (h0 : MS)  : F_X4_goTell m a1 a2 a3 (pu m ad h0 h) = Option.map ((fun q => (q.1, pu m ad q.2 h))) (P_X4_goTell a1 a2 a3 h0) := by
  unfold F_X4_goTell P_X4_goTell
  simp only [bind_pu, b2_pu, bind_map9, map_bind9, map_pb29, map_ite9, map_some9, map_none9, bind_some9, r_isO, r_aldI W, r_astI W, mv0, mv1, mv2, mv4, mv6, mv9, mv10, mv13, mv14, mv15, mv17, mv18, r_getR0, r_getR1, r_getR2, r_getR4, r_getR6, r_getR9, r_getR10, r_getR13, r_getR14, r_getR15, r_getR17, r_getR18, r_getJ, r_putJ W, r_getI3, r_getI5, r_getI7, r_getI8, r_getI11, r_getI16, r_getI19, r_getI20, r_getI21, r_getI22, r_getI23, r_getI24, r_getI25, r_getI26, r_getI27, r_getI28, r_putI3 W, r_putI5 W, r_putI7 W, r_putI8 W, r_putI11 W, r_putI16 W, r_putI19 W, r_putI20 W, r_putI21 W, r_putI22 W, r_putI23 W, r_putI24 W, r_putI25 W, r_putI26 W, r_putI27 W, r_putI28 W, Sum.map_inl, Sum.map_inr, id_eq, eJ19 W, eJ20 W, e_X4_goTell_T80 W]
def P_X4_tell (a1 : Int32) (a2 : Int32) (a3 : Int32) (h0 : MS) : Option (Int32 × MS) :=

  Option.bind (P_X4_begins h0) fun h2 =>
  pb2 (P_X4_goTell a1 a2 a3 h2) fun v5 h4 =>
  pb2 (P_X4_ends v5 h4) fun v8 h7 =>
  some ((if v8 = (1 : Int32) then (1 : Int32) else (0 : Int32)), h7)
set_option maxHeartbeats 1000000 in
theorem e_X4_tell {m : Nat} {ad : Nat → Nat} {h : HH} (W : WFM m ad h) (a1 : Int32) (a2 : Int32) (a3 : Int32) (h0 : MS)  : F_X4_tell m a1 a2 a3 (pu m ad h0 h) = Option.map ((fun q => (q.1, pu m ad q.2 h))) (P_X4_tell a1 a2 a3 h0) := by
  unfold F_X4_tell P_X4_tell
  simp only [bind_pu, b2_pu, bind_map9, map_bind9, map_pb29, map_ite9, map_some9, map_none9, bind_some9, r_isO, r_aldI W, r_astI W, mv0, mv1, mv2, mv4, mv6, mv9, mv10, mv13, mv14, mv15, mv17, mv18, r_getR0, r_getR1, r_getR2, r_getR4, r_getR6, r_getR9, r_getR10, r_getR13, r_getR14, r_getR15, r_getR17, r_getR18, r_getJ, r_putJ W, r_getI3, r_getI5, r_getI7, r_getI8, r_getI11, r_getI16, r_getI19, r_getI20, r_getI21, r_getI22, r_getI23, r_getI24, r_getI25, r_getI26, r_getI27, r_getI28, r_putI3 W, r_putI5 W, r_putI7 W, r_putI8 W, r_putI11 W, r_putI16 W, r_putI19 W, r_putI20 W, r_putI21 W, r_putI22 W, r_putI23 W, r_putI24 W, r_putI25 W, r_putI26 W, r_putI27 W, r_putI28 W, Sum.map_inl, Sum.map_inr, id_eq, eJ19 W, eJ20 W, e_X4_begins W, e_X4_ends W, e_X4_goTell W]
def P_X4_goForget (a1 : Int32) (a2 : Int32) (h0 : MS) : Option (Int32 × MS) :=
  if (F_X4_arePair a1 a2) = 0 then (
    some ((-11 : Int32), h0)
  ) else (
    Option.bind (rd h0 0 (((0 : Int32) + ((4 : Int32) * a1)) + a2)) fun v4 =>
    Option.bind (wr h0 0 (((0 : Int32) + ((4 : Int32) * a1)) + a2) (if a1 = (3 : Int32) then (0 : Int32) else (100000 : Int32))) fun h7 =>
    pb2 (P_X4_isTooLate h7) fun v10 h9 =>
    some ((if v10 = 0 then (if (if v4 = (if a1 = (3 : Int32) then (0 : Int32) else (100000 : Int32)) then (0 : Int32) else (1 : Int32)) = 0 then (0 : Int32) else (1 : Int32)) else (-12 : Int32)), h9)
  )
set_option maxHeartbeats 1000000 in
theorem e_X4_goForget {m : Nat} {ad : Nat → Nat} {h : HH} (W : WFM m ad h) (a1 : Int32) (a2 : Int32) (h0 : MS)  : F_X4_goForget m a1 a2 (pu m ad h0 h) = Option.map ((fun q => (q.1, pu m ad q.2 h))) (P_X4_goForget a1 a2 h0) := by
  unfold F_X4_goForget P_X4_goForget
  simp only [bind_pu, b2_pu, bind_map9, map_bind9, map_pb29, map_ite9, map_some9, map_none9, bind_some9, r_isO, r_aldI W, r_astI W, mv0, mv1, mv2, mv4, mv6, mv9, mv10, mv13, mv14, mv15, mv17, mv18, r_getR0, r_getR1, r_getR2, r_getR4, r_getR6, r_getR9, r_getR10, r_getR13, r_getR14, r_getR15, r_getR17, r_getR18, r_getJ, r_putJ W, r_getI3, r_getI5, r_getI7, r_getI8, r_getI11, r_getI16, r_getI19, r_getI20, r_getI21, r_getI22, r_getI23, r_getI24, r_getI25, r_getI26, r_getI27, r_getI28, r_putI3 W, r_putI5 W, r_putI7 W, r_putI8 W, r_putI11 W, r_putI16 W, r_putI19 W, r_putI20 W, r_putI21 W, r_putI22 W, r_putI23 W, r_putI24 W, r_putI25 W, r_putI26 W, r_putI27 W, r_putI28 W, Sum.map_inl, Sum.map_inr, id_eq, eJ19 W, eJ20 W, e_X4_isTooLate W]
def P_X4_forget (a1 : Int32) (a2 : Int32) (h0 : MS) : Option (Int32 × MS) :=

  Option.bind (P_X4_begins h0) fun h2 =>
  pb2 (P_X4_goForget a1 a2 h2) fun v5 h4 =>
  pb2 (P_X4_ends v5 h4) fun v8 h7 =>
  some ((if v8 = (1 : Int32) then (1 : Int32) else (0 : Int32)), h7)
set_option maxHeartbeats 1000000 in
theorem e_X4_forget {m : Nat} {ad : Nat → Nat} {h : HH} (W : WFM m ad h) (a1 : Int32) (a2 : Int32) (h0 : MS)  : F_X4_forget m a1 a2 (pu m ad h0 h) = Option.map ((fun q => (q.1, pu m ad q.2 h))) (P_X4_forget a1 a2 h0) := by
  unfold F_X4_forget P_X4_forget
  simp only [bind_pu, b2_pu, bind_map9, map_bind9, map_pb29, map_ite9, map_some9, map_none9, bind_some9, r_isO, r_aldI W, r_astI W, mv0, mv1, mv2, mv4, mv6, mv9, mv10, mv13, mv14, mv15, mv17, mv18, r_getR0, r_getR1, r_getR2, r_getR4, r_getR6, r_getR9, r_getR10, r_getR13, r_getR14, r_getR15, r_getR17, r_getR18, r_getJ, r_putJ W, r_getI3, r_getI5, r_getI7, r_getI8, r_getI11, r_getI16, r_getI19, r_getI20, r_getI21, r_getI22, r_getI23, r_getI24, r_getI25, r_getI26, r_getI27, r_getI28, r_putI3 W, r_putI5 W, r_putI7 W, r_putI8 W, r_putI11 W, r_putI16 W, r_putI19 W, r_putI20 W, r_putI21 W, r_putI22 W, r_putI23 W, r_putI24 W, r_putI25 W, r_putI26 W, r_putI27 W, r_putI28 W, Sum.map_inl, Sum.map_inr, id_eq, eJ19 W, eJ20 W, e_X4_begins W, e_X4_ends W, e_X4_goForget W]
def P_X4_changed_B4 (x1_1 : Int32) (x2_1 : Int32) (h0 : MS) : Option ((Int32 × Int32) ⊕ Int32) :=
  if (16 : Int32) ≤ x2_1 then (
    some (.inr x1_1)
  ) else (
    Option.bind (rd h0 0 ((0 : Int32) + x2_1)) fun v4 =>
    Option.bind (rd h0 1 ((0 : Int32) + x2_1)) fun v6 =>
    some (.inl ((x1_1 + (if v4 = v6 then (0 : Int32) else (1 : Int32))), (x2_1 + (1 : Int32))))
  )
set_option maxHeartbeats 1000000 in
theorem e_X4_changed_B4 {m : Nat} {ad : Nat → Nat} {h : HH} (W : WFM m ad h) (x1_1 : Int32) (x2_1 : Int32) (h0 : MS)  : F_X4_changed_B4 m x1_1 x2_1 (pu m ad h0 h) = P_X4_changed_B4 x1_1 x2_1 h0 := by
  unfold F_X4_changed_B4 P_X4_changed_B4
  simp only [bind_pu, b2_pu, bind_map9, map_bind9, map_pb29, map_ite9, map_some9, map_none9, bind_some9, r_isO, r_aldI W, r_astI W, mv0, mv1, mv2, mv4, mv6, mv9, mv10, mv13, mv14, mv15, mv17, mv18, r_getR0, r_getR1, r_getR2, r_getR4, r_getR6, r_getR9, r_getR10, r_getR13, r_getR14, r_getR15, r_getR17, r_getR18, r_getJ, r_putJ W, r_getI3, r_getI5, r_getI7, r_getI8, r_getI11, r_getI16, r_getI19, r_getI20, r_getI21, r_getI22, r_getI23, r_getI24, r_getI25, r_getI26, r_getI27, r_getI28, r_putI3 W, r_putI5 W, r_putI7 W, r_putI8 W, r_putI11 W, r_putI16 W, r_putI19 W, r_putI20 W, r_putI21 W, r_putI22 W, r_putI23 W, r_putI24 W, r_putI25 W, r_putI26 W, r_putI27 W, r_putI28 W, Sum.map_inl, Sum.map_inr, id_eq, eJ19 W, eJ20 W]
def P_X4_changed (h0 : MS) : Option Int32 :=
  Option.bind (lp (fun z => P_X4_changed_B4 z.1 z.2 h0) 100000 ((0 : Int32), (0 : Int32))) fun v8 =>
  some v8
set_option maxHeartbeats 1000000 in
theorem e_X4_changed {m : Nat} {ad : Nat → Nat} {h : HH} (W : WFM m ad h) (h0 : MS)  : F_X4_changed m (pu m ad h0 h) = P_X4_changed h0 := by
  unfold F_X4_changed P_X4_changed
  simp only [bind_pu, b2_pu, bind_map9, map_bind9, map_pb29, map_ite9, map_some9, map_none9, bind_some9, r_isO, r_aldI W, r_astI W, mv0, mv1, mv2, mv4, mv6, mv9, mv10, mv13, mv14, mv15, mv17, mv18, r_getR0, r_getR1, r_getR2, r_getR4, r_getR6, r_getR9, r_getR10, r_getR13, r_getR14, r_getR15, r_getR17, r_getR18, r_getJ, r_putJ W, r_getI3, r_getI5, r_getI7, r_getI8, r_getI11, r_getI16, r_getI19, r_getI20, r_getI21, r_getI22, r_getI23, r_getI24, r_getI25, r_getI26, r_getI27, r_getI28, r_putI3 W, r_putI5 W, r_putI7 W, r_putI8 W, r_putI11 W, r_putI16 W, r_putI19 W, r_putI20 W, r_putI21 W, r_putI22 W, r_putI23 W, r_putI24 W, r_putI25 W, r_putI26 W, r_putI27 W, r_putI28 W, Sum.map_inl, Sum.map_inr, id_eq, eJ19 W, eJ20 W, e_X4_changed_B4 W]
def P_X4_forgetAll (h0 : MS) : Option (Int32 × MS) :=

  Option.bind (P_X4_begins h0) fun h2 =>
  Option.bind (P_X4_frees h2) fun h4 =>
  Option.bind (P_X4_changed h4) fun v6 =>
  pb2 (P_X4_ends v6 h4) fun v9 h8 =>
  some (v9, h8)
set_option maxHeartbeats 1000000 in
theorem e_X4_forgetAll {m : Nat} {ad : Nat → Nat} {h : HH} (W : WFM m ad h) (h0 : MS)  : F_X4_forgetAll m (pu m ad h0 h) = Option.map ((fun q => (q.1, pu m ad q.2 h))) (P_X4_forgetAll h0) := by
  unfold F_X4_forgetAll P_X4_forgetAll
  simp only [bind_pu, b2_pu, bind_map9, map_bind9, map_pb29, map_ite9, map_some9, map_none9, bind_some9, r_isO, r_aldI W, r_astI W, mv0, mv1, mv2, mv4, mv6, mv9, mv10, mv13, mv14, mv15, mv17, mv18, r_getR0, r_getR1, r_getR2, r_getR4, r_getR6, r_getR9, r_getR10, r_getR13, r_getR14, r_getR15, r_getR17, r_getR18, r_getJ, r_putJ W, r_getI3, r_getI5, r_getI7, r_getI8, r_getI11, r_getI16, r_getI19, r_getI20, r_getI21, r_getI22, r_getI23, r_getI24, r_getI25, r_getI26, r_getI27, r_getI28, r_putI3 W, r_putI5 W, r_putI7 W, r_putI8 W, r_putI11 W, r_putI16 W, r_putI19 W, r_putI20 W, r_putI21 W, r_putI22 W, r_putI23 W, r_putI24 W, r_putI25 W, r_putI26 W, r_putI27 W, r_putI28 W, Sum.map_inl, Sum.map_inr, id_eq, eJ19 W, eJ20 W, e_X4_begins W, e_X4_changed W, e_X4_ends W, e_X4_frees W]
def P_X4_isTooFar_B4 (x1_1 : Int32) (x2_1 : Int32) (h0 : MS) : Option ((Int32 × Int32) ⊕ Int32) :=
  if (16 : Int32) ≤ x2_1 then (
    some (.inr x1_1)
  ) else (
    if x1_1 = 0 then (
      Option.bind (rd h0 0 ((0 : Int32) + x2_1)) fun v5 =>
      if v5 ≤ (999 : Int32) then (
        some (.inl ((0 : Int32), (x2_1 + (1 : Int32))))
      ) else (
        Option.bind (rd h0 0 ((0 : Int32) + x2_1)) fun v8 =>
        some (.inl ((if v8 = (100000 : Int32) then (0 : Int32) else (1 : Int32)), (x2_1 + (1 : Int32))))
      )
    ) else (
      some (.inl ((1 : Int32), (x2_1 + (1 : Int32))))
    )
  )
set_option maxHeartbeats 1000000 in
theorem e_X4_isTooFar_B4 {m : Nat} {ad : Nat → Nat} {h : HH} (W : WFM m ad h) (x1_1 : Int32) (x2_1 : Int32) (h0 : MS)  : F_X4_isTooFar_B4 m x1_1 x2_1 (pu m ad h0 h) = P_X4_isTooFar_B4 x1_1 x2_1 h0 := by
  unfold F_X4_isTooFar_B4 P_X4_isTooFar_B4
  simp only [bind_pu, b2_pu, bind_map9, map_bind9, map_pb29, map_ite9, map_some9, map_none9, bind_some9, r_isO, r_aldI W, r_astI W, mv0, mv1, mv2, mv4, mv6, mv9, mv10, mv13, mv14, mv15, mv17, mv18, r_getR0, r_getR1, r_getR2, r_getR4, r_getR6, r_getR9, r_getR10, r_getR13, r_getR14, r_getR15, r_getR17, r_getR18, r_getJ, r_putJ W, r_getI3, r_getI5, r_getI7, r_getI8, r_getI11, r_getI16, r_getI19, r_getI20, r_getI21, r_getI22, r_getI23, r_getI24, r_getI25, r_getI26, r_getI27, r_getI28, r_putI3 W, r_putI5 W, r_putI7 W, r_putI8 W, r_putI11 W, r_putI16 W, r_putI19 W, r_putI20 W, r_putI21 W, r_putI22 W, r_putI23 W, r_putI24 W, r_putI25 W, r_putI26 W, r_putI27 W, r_putI28 W, Sum.map_inl, Sum.map_inr, id_eq, eJ19 W, eJ20 W]
def P_X4_isTooFar (h0 : MS) : Option Int32 :=
  Option.bind (lp (fun z => P_X4_isTooFar_B4 z.1 z.2 h0) 100000 ((0 : Int32), (0 : Int32))) fun v10 =>
  Option.bind (okZ v10) fun _ =>
  some v10
set_option maxHeartbeats 1000000 in
theorem e_X4_isTooFar {m : Nat} {ad : Nat → Nat} {h : HH} (W : WFM m ad h) (h0 : MS)  : F_X4_isTooFar m (pu m ad h0 h) = P_X4_isTooFar h0 := by
  unfold F_X4_isTooFar P_X4_isTooFar
  simp only [bind_pu, b2_pu, bind_map9, map_bind9, map_pb29, map_ite9, map_some9, map_none9, bind_some9, r_isO, r_aldI W, r_astI W, mv0, mv1, mv2, mv4, mv6, mv9, mv10, mv13, mv14, mv15, mv17, mv18, r_getR0, r_getR1, r_getR2, r_getR4, r_getR6, r_getR9, r_getR10, r_getR13, r_getR14, r_getR15, r_getR17, r_getR18, r_getJ, r_putJ W, r_getI3, r_getI5, r_getI7, r_getI8, r_getI11, r_getI16, r_getI19, r_getI20, r_getI21, r_getI22, r_getI23, r_getI24, r_getI25, r_getI26, r_getI27, r_getI28, r_putI3 W, r_putI5 W, r_putI7 W, r_putI8 W, r_putI11 W, r_putI16 W, r_putI19 W, r_putI20 W, r_putI21 W, r_putI22 W, r_putI23 W, r_putI24 W, r_putI25 W, r_putI26 W, r_putI27 W, r_putI28 W, Sum.map_inl, Sum.map_inr, id_eq, eJ19 W, eJ20 W, e_X4_isTooFar_B4 W]
def P_X4_goTighten (h0 : MS) : Option (Int32 × MS) :=

  pb2 (P_X4_looks h0) fun v3 h2 =>
  if v3 = 0 then (
    some ((-12 : Int32), h2)
  ) else (
    Option.bind (P_X4_carries 9 (0 : Int32) 0 (0 : Int32) h2) fun h7 =>
    Option.bind (P_X4_isTooFar h7) fun v9 =>
    if v9 = 0 then (
      Option.bind (P_X4_changed h7) fun v12 =>
      some (v12, h7)
    ) else (
      some ((-12 : Int32), h7)
    )
  )
set_option maxHeartbeats 1000000 in
theorem e_X4_goTighten {m : Nat} {ad : Nat → Nat} {h : HH} (W : WFM m ad h) (h0 : MS)  : F_X4_goTighten m (pu m ad h0 h) = Option.map ((fun q => (q.1, pu m ad q.2 h))) (P_X4_goTighten h0) := by
  unfold F_X4_goTighten P_X4_goTighten
  simp only [bind_pu, b2_pu, bind_map9, map_bind9, map_pb29, map_ite9, map_some9, map_none9, bind_some9, r_isO, r_aldI W, r_astI W, mv0, mv1, mv2, mv4, mv6, mv9, mv10, mv13, mv14, mv15, mv17, mv18, r_getR0, r_getR1, r_getR2, r_getR4, r_getR6, r_getR9, r_getR10, r_getR13, r_getR14, r_getR15, r_getR17, r_getR18, r_getJ, r_putJ W, r_getI3, r_getI5, r_getI7, r_getI8, r_getI11, r_getI16, r_getI19, r_getI20, r_getI21, r_getI22, r_getI23, r_getI24, r_getI25, r_getI26, r_getI27, r_getI28, r_putI3 W, r_putI5 W, r_putI7 W, r_putI8 W, r_putI11 W, r_putI16 W, r_putI19 W, r_putI20 W, r_putI21 W, r_putI22 W, r_putI23 W, r_putI24 W, r_putI25 W, r_putI26 W, r_putI27 W, r_putI28 W, Sum.map_inl, Sum.map_inr, id_eq, eJ19 W, eJ20 W, e_X4_carries W, e_X4_changed W, e_X4_isTooFar W, e_X4_looks W]
def P_X4_only (a1 : Int32) (h0 : MS) : Option (Int32 × MS) :=

  pb2 (P_X4_ends a1 h0) fun v3 h2 =>
  Option.bind (pgI h2 8) fun v4 =>
  Option.bind (piI h2 8 (if v4 ≤ 0 then (0 : Int32) else (1 : Int32))) fun h6 =>
  some (v3, h6)
set_option maxHeartbeats 1000000 in
theorem e_X4_only {m : Nat} {ad : Nat → Nat} {h : HH} (W : WFM m ad h) (a1 : Int32) (h0 : MS)  : F_X4_only m a1 (pu m ad h0 h) = Option.map ((fun q => (q.1, pu m ad q.2 h))) (P_X4_only a1 h0) := by
  unfold F_X4_only P_X4_only
  simp only [bind_pu, b2_pu, bind_map9, map_bind9, map_pb29, map_ite9, map_some9, map_none9, bind_some9, r_isO, r_aldI W, r_astI W, mv0, mv1, mv2, mv4, mv6, mv9, mv10, mv13, mv14, mv15, mv17, mv18, r_getR0, r_getR1, r_getR2, r_getR4, r_getR6, r_getR9, r_getR10, r_getR13, r_getR14, r_getR15, r_getR17, r_getR18, r_getJ, r_putJ W, r_getI3, r_getI5, r_getI7, r_getI8, r_getI11, r_getI16, r_getI19, r_getI20, r_getI21, r_getI22, r_getI23, r_getI24, r_getI25, r_getI26, r_getI27, r_getI28, r_putI3 W, r_putI5 W, r_putI7 W, r_putI8 W, r_putI11 W, r_putI16 W, r_putI19 W, r_putI20 W, r_putI21 W, r_putI22 W, r_putI23 W, r_putI24 W, r_putI25 W, r_putI26 W, r_putI27 W, r_putI28 W, Sum.map_inl, Sum.map_inr, id_eq, eJ19 W, eJ20 W, e_X4_ends W]
def P_X4_tighten (h0 : MS) : Option (Int32 × MS) :=

  Option.bind (P_X4_begins h0) fun h2 =>
  pb2 (P_X4_goTighten h2) fun v5 h4 =>
  pb2 (P_X4_only v5 h4) fun v8 h7 =>
  some (v8, h7)
set_option maxHeartbeats 1000000 in
theorem e_X4_tighten {m : Nat} {ad : Nat → Nat} {h : HH} (W : WFM m ad h) (h0 : MS)  : F_X4_tighten m (pu m ad h0 h) = Option.map ((fun q => (q.1, pu m ad q.2 h))) (P_X4_tighten h0) := by
  unfold F_X4_tighten P_X4_tighten
  simp only [bind_pu, b2_pu, bind_map9, map_bind9, map_pb29, map_ite9, map_some9, map_none9, bind_some9, r_isO, r_aldI W, r_astI W, mv0, mv1, mv2, mv4, mv6, mv9, mv10, mv13, mv14, mv15, mv17, mv18, r_getR0, r_getR1, r_getR2, r_getR4, r_getR6, r_getR9, r_getR10, r_getR13, r_getR14, r_getR15, r_getR17, r_getR18, r_getJ, r_putJ W, r_getI3, r_getI5, r_getI7, r_getI8, r_getI11, r_getI16, r_getI19, r_getI20, r_getI21, r_getI22, r_getI23, r_getI24, r_getI25, r_getI26, r_getI27, r_getI28, r_putI3 W, r_putI5 W, r_putI7 W, r_putI8 W, r_putI11 W, r_putI16 W, r_putI19 W, r_putI20 W, r_putI21 W, r_putI22 W, r_putI23 W, r_putI24 W, r_putI25 W, r_putI26 W, r_putI27 W, r_putI28 W, Sum.map_inl, Sum.map_inr, id_eq, eJ19 W, eJ20 W, e_X4_begins W, e_X4_goTighten W, e_X4_only W]
def P_X4_most (a1 : Int32) (h0 : MS) : Option Int32 :=

  Option.bind (rd h0 9 (((4 : Int32) * a1) + (3 : Int32))) fun v2 =>
  some v2
set_option maxHeartbeats 1000000 in
theorem e_X4_most {m : Nat} {ad : Nat → Nat} {h : HH} (W : WFM m ad h) (a1 : Int32) (h0 : MS)  : F_X4_most m a1 (pu m ad h0 h) = P_X4_most a1 h0 := by
  unfold F_X4_most P_X4_most
  simp only [bind_pu, b2_pu, bind_map9, map_bind9, map_pb29, map_ite9, map_some9, map_none9, bind_some9, r_isO, r_aldI W, r_astI W, mv0, mv1, mv2, mv4, mv6, mv9, mv10, mv13, mv14, mv15, mv17, mv18, r_getR0, r_getR1, r_getR2, r_getR4, r_getR6, r_getR9, r_getR10, r_getR13, r_getR14, r_getR15, r_getR17, r_getR18, r_getJ, r_putJ W, r_getI3, r_getI5, r_getI7, r_getI8, r_getI11, r_getI16, r_getI19, r_getI20, r_getI21, r_getI22, r_getI23, r_getI24, r_getI25, r_getI26, r_getI27, r_getI28, r_putI3 W, r_putI5 W, r_putI7 W, r_putI8 W, r_putI11 W, r_putI16 W, r_putI19 W, r_putI20 W, r_putI21 W, r_putI22 W, r_putI23 W, r_putI24 W, r_putI25 W, r_putI26 W, r_putI27 W, r_putI28 W, Sum.map_inl, Sum.map_inr, id_eq, eJ19 W, eJ20 W]
def P_X4_resets_B2 (a1 : Int32) (a2 : Int32) (x3_1 : Int32) (h_1 : MS) : Option ((Int32 × MS) ⊕ MS) :=
  if (4 : Int32) ≤ x3_1 then (
    some (.inr h_1)
  ) else (
    if x3_1 = a1 then (
      some (.inl ((x3_1 + (1 : Int32)), h_1))
    ) else (
      Option.bind (rd h_1 9 ((12 : Int32) + x3_1)) fun v6 =>
      Option.bind (wr h_1 9 (((4 : Int32) * a1) + x3_1) (a2 + v6)) fun h7 =>
      Option.bind (rd h7 9 (((4 : Int32) * x3_1) + (3 : Int32))) fun v10 =>
      Option.bind (wr h7 9 (((4 : Int32) * x3_1) + a1) (F_X4_sum v10 (-a2))) fun h11 =>
      some (.inl ((x3_1 + (1 : Int32)), h11))
    )
  )
set_option maxHeartbeats 1000000 in
theorem e_X4_resets_B2 {m : Nat} {ad : Nat → Nat} {h : HH} (W : WFM m ad h) (a1 : Int32) (a2 : Int32) (x3_1 : Int32) (h_1 : MS)  : F_X4_resets_B2 m a1 a2 x3_1 (pu m ad h_1 h) = Option.map (Sum.map (fun q => (q.1, pu m ad q.2 h)) (fun S => pu m ad S h)) (P_X4_resets_B2 a1 a2 x3_1 h_1) := by
  unfold F_X4_resets_B2 P_X4_resets_B2
  simp only [bind_pu, b2_pu, bind_map9, map_bind9, map_pb29, map_ite9, map_some9, map_none9, bind_some9, r_isO, r_aldI W, r_astI W, mv0, mv1, mv2, mv4, mv6, mv9, mv10, mv13, mv14, mv15, mv17, mv18, r_getR0, r_getR1, r_getR2, r_getR4, r_getR6, r_getR9, r_getR10, r_getR13, r_getR14, r_getR15, r_getR17, r_getR18, r_getJ, r_putJ W, r_getI3, r_getI5, r_getI7, r_getI8, r_getI11, r_getI16, r_getI19, r_getI20, r_getI21, r_getI22, r_getI23, r_getI24, r_getI25, r_getI26, r_getI27, r_getI28, r_putI3 W, r_putI5 W, r_putI7 W, r_putI8 W, r_putI11 W, r_putI16 W, r_putI19 W, r_putI20 W, r_putI21 W, r_putI22 W, r_putI23 W, r_putI24 W, r_putI25 W, r_putI26 W, r_putI27 W, r_putI28 W, Sum.map_inl, Sum.map_inr, id_eq, eJ19 W, eJ20 W]
theorem l_X4_resets_B2 {m : Nat} {ad : Nat → Nat} {h : HH} (W : WFM m ad h) (a1 : Int32) (a2 : Int32)  (n : Nat) (x3_1 : Int32) (h_1 : MS) : lp (fun z => F_X4_resets_B2 m a1 a2 z.1 z.2) n (x3_1, pu m ad h_1 h) = Option.map (fun S => pu m ad S h) (lp (fun z => P_X4_resets_B2 a1 a2 z.1 z.2) n (x3_1, h_1)) := by
  have := lp_map9 (B := fun z => F_X4_resets_B2 m a1 a2 z.1 z.2) (B' := fun z => P_X4_resets_B2 a1 a2 z.1 z.2) (fun q => (q.1, pu m ad q.2 h)) (fun S => pu m ad S h) (fun z => e_X4_resets_B2 W a1 a2 z.1 z.2 ) n (x3_1, h_1)
  exact this
def P_X4_resets (a1 : Int32) (a2 : Int32) (h0 : MS) : Option MS :=
  Option.bind (lp (fun z => P_X4_resets_B2 a1 a2 z.1 z.2) 100000 ((0 : Int32), h0)) fun h12 =>
  Option.bind (wr h12 9 (((4 : Int32) * a1) + (3 : Int32)) a2) fun h14 =>
  Option.bind (wr h14 9 ((12 : Int32) + a1) (-a2)) fun h16 =>
  some h16
set_option maxHeartbeats 1000000 in
theorem e_X4_resets {m : Nat} {ad : Nat → Nat} {h : HH} (W : WFM m ad h) (a1 : Int32) (a2 : Int32) (h0 : MS)  : F_X4_resets m a1 a2 (pu m ad h0 h) = Option.map ((fun S => pu m ad S h)) (P_X4_resets a1 a2 h0) := by
  unfold F_X4_resets P_X4_resets
  simp only [bind_pu, b2_pu, bind_map9, map_bind9, map_pb29, map_ite9, map_some9, map_none9, bind_some9, r_isO, r_aldI W, r_astI W, mv0, mv1, mv2, mv4, mv6, mv9, mv10, mv13, mv14, mv15, mv17, mv18, r_getR0, r_getR1, r_getR2, r_getR4, r_getR6, r_getR9, r_getR10, r_getR13, r_getR14, r_getR15, r_getR17, r_getR18, r_getJ, r_putJ W, r_getI3, r_getI5, r_getI7, r_getI8, r_getI11, r_getI16, r_getI19, r_getI20, r_getI21, r_getI22, r_getI23, r_getI24, r_getI25, r_getI26, r_getI27, r_getI28, r_putI3 W, r_putI5 W, r_putI7 W, r_putI8 W, r_putI11 W, r_putI16 W, r_putI19 W, r_putI20 W, r_putI21 W, r_putI22 W, r_putI23 W, r_putI24 W, r_putI25 W, r_putI26 W, r_putI27 W, r_putI28 W, Sum.map_inl, Sum.map_inr, id_eq, eJ19 W, eJ20 W, l_X4_resets_B2 W]
def P_X4_tells (a1 : Int32) (h0 : MS) : Option (Int32 × MS) :=

  pb2 (P_X4_tightens 9 (0 : Int32) h0) fun v3 h2 =>
  Option.bind (P_X4_carries 9 (0 : Int32) 0 (0 : Int32) h2) fun h6 =>
  Option.bind (rd h6 0 (193 : Int32)) fun v8 =>
  Option.bind (wr h6 0 (193 : Int32) (v8 + (1 : Int32))) fun h9 =>
  pb2 (P_X4_isTooLate h9) fun v12 h11 =>
  if v12 = 0 then (
    Option.bind (P_X4_isTooFar h11) fun v15 =>
    some ((if v15 = 0 then a1 else (-12 : Int32)), h11)
  ) else (
    some ((-12 : Int32), h11)
  )
set_option maxHeartbeats 1000000 in
theorem e_X4_tells {m : Nat} {ad : Nat → Nat} {h : HH} (W : WFM m ad h) (a1 : Int32) (h0 : MS)  : F_X4_tells m a1 (pu m ad h0 h) = Option.map ((fun q => (q.1, pu m ad q.2 h))) (P_X4_tells a1 h0) := by
  unfold F_X4_tells P_X4_tells
  simp only [bind_pu, b2_pu, bind_map9, map_bind9, map_pb29, map_ite9, map_some9, map_none9, bind_some9, r_isO, r_aldI W, r_astI W, mv0, mv1, mv2, mv4, mv6, mv9, mv10, mv13, mv14, mv15, mv17, mv18, r_getR0, r_getR1, r_getR2, r_getR4, r_getR6, r_getR9, r_getR10, r_getR13, r_getR14, r_getR15, r_getR17, r_getR18, r_getJ, r_putJ W, r_getI3, r_getI5, r_getI7, r_getI8, r_getI11, r_getI16, r_getI19, r_getI20, r_getI21, r_getI22, r_getI23, r_getI24, r_getI25, r_getI26, r_getI27, r_getI28, r_putI3 W, r_putI5 W, r_putI7 W, r_putI8 W, r_putI11 W, r_putI16 W, r_putI19 W, r_putI20 W, r_putI21 W, r_putI22 W, r_putI23 W, r_putI24 W, r_putI25 W, r_putI26 W, r_putI27 W, r_putI28 W, Sum.map_inl, Sum.map_inr, id_eq, eJ19 W, eJ20 W, e_X4_carries W, e_X4_isTooFar W, e_X4_isTooLate W, e_X4_tightens W]
def P_X4_goReset (a1 : Int32) (a2 : Int32) (h0 : MS) : Option (Int32 × MS) :=
  if (F_X4_isClock a1) = 0 then (
    some ((-11 : Int32), h0)
  ) else (
    if (F_X4_in a2 (0 : Int32) (9 : Int32)) = 0 then (
      some ((-11 : Int32), h0)
    ) else (
      pb2 (P_X4_looks h0) fun v5 h4 =>
      if v5 = 0 then (
        some ((-12 : Int32), h4)
      ) else (
        Option.bind (P_X4_most a1 h4) fun v8 =>
        Option.bind (P_X4_resets a1 a2 h4) fun h10 =>
        pb2 (P_X4_tells (if v8 = (100000 : Int32) then (31 : Int32) else v8) h10) fun v14 h13 =>
        some (v14, h13)
      )
    )
  )
set_option maxHeartbeats 1000000 in
theorem e_X4_goReset {m : Nat} {ad : Nat → Nat} {h : HH} (W : WFM m ad h) (a1 : Int32) (a2 : Int32) (h0 : MS)  : F_X4_goReset m a1 a2 (pu m ad h0 h) = Option.map ((fun q => (q.1, pu m ad q.2 h))) (P_X4_goReset a1 a2 h0) := by
  unfold F_X4_goReset P_X4_goReset
  simp only [bind_pu, b2_pu, bind_map9, map_bind9, map_pb29, map_ite9, map_some9, map_none9, bind_some9, r_isO, r_aldI W, r_astI W, mv0, mv1, mv2, mv4, mv6, mv9, mv10, mv13, mv14, mv15, mv17, mv18, r_getR0, r_getR1, r_getR2, r_getR4, r_getR6, r_getR9, r_getR10, r_getR13, r_getR14, r_getR15, r_getR17, r_getR18, r_getJ, r_putJ W, r_getI3, r_getI5, r_getI7, r_getI8, r_getI11, r_getI16, r_getI19, r_getI20, r_getI21, r_getI22, r_getI23, r_getI24, r_getI25, r_getI26, r_getI27, r_getI28, r_putI3 W, r_putI5 W, r_putI7 W, r_putI8 W, r_putI11 W, r_putI16 W, r_putI19 W, r_putI20 W, r_putI21 W, r_putI22 W, r_putI23 W, r_putI24 W, r_putI25 W, r_putI26 W, r_putI27 W, r_putI28 W, Sum.map_inl, Sum.map_inr, id_eq, eJ19 W, eJ20 W, e_X4_looks W, e_X4_most W, e_X4_resets W, e_X4_tells W]
def P_X4_reset (a1 : Int32) (a2 : Int32) (h0 : MS) : Option (Int32 × MS) :=

  Option.bind (P_X4_begins h0) fun h2 =>
  pb2 (P_X4_goReset a1 a2 h2) fun v5 h4 =>
  pb2 (P_X4_ends v5 h4) fun v8 h7 =>
  some (v8, h7)
set_option maxHeartbeats 1000000 in
theorem e_X4_reset {m : Nat} {ad : Nat → Nat} {h : HH} (W : WFM m ad h) (a1 : Int32) (a2 : Int32) (h0 : MS)  : F_X4_reset m a1 a2 (pu m ad h0 h) = Option.map ((fun q => (q.1, pu m ad q.2 h))) (P_X4_reset a1 a2 h0) := by
  unfold F_X4_reset P_X4_reset
  simp only [bind_pu, b2_pu, bind_map9, map_bind9, map_pb29, map_ite9, map_some9, map_none9, bind_some9, r_isO, r_aldI W, r_astI W, mv0, mv1, mv2, mv4, mv6, mv9, mv10, mv13, mv14, mv15, mv17, mv18, r_getR0, r_getR1, r_getR2, r_getR4, r_getR6, r_getR9, r_getR10, r_getR13, r_getR14, r_getR15, r_getR17, r_getR18, r_getJ, r_putJ W, r_getI3, r_getI5, r_getI7, r_getI8, r_getI11, r_getI16, r_getI19, r_getI20, r_getI21, r_getI22, r_getI23, r_getI24, r_getI25, r_getI26, r_getI27, r_getI28, r_putI3 W, r_putI5 W, r_putI7 W, r_putI8 W, r_putI11 W, r_putI16 W, r_putI19 W, r_putI20 W, r_putI21 W, r_putI22 W, r_putI23 W, r_putI24 W, r_putI25 W, r_putI26 W, r_putI27 W, r_putI28 W, Sum.map_inl, Sum.map_inr, id_eq, eJ19 W, eJ20 W, e_X4_begins W, e_X4_ends W, e_X4_goReset W]
def P_X4_delays_B4 (x1_1 : Int32) (x2_1 : Int32) (h_1 : MS) : Option ((Int32 × Int32 × MS) ⊕ (Int32 × MS)) :=
  if (3 : Int32) ≤ x2_1 then (
    some (.inr (x1_1, h_1))
  ) else (
    Option.bind (P_X4_most x2_1 h_1) fun v4 =>
    Option.bind (wr h_1 9 (((4 : Int32) * x2_1) + (3 : Int32)) (100000 : Int32)) fun h7 =>
    some (.inl ((x1_1 + (if v4 = (100000 : Int32) then (0 : Int32) else (1 : Int32))), (x2_1 + (1 : Int32)), h7))
  )
set_option maxHeartbeats 1000000 in
theorem e_X4_delays_B4 {m : Nat} {ad : Nat → Nat} {h : HH} (W : WFM m ad h) (x1_1 : Int32) (x2_1 : Int32) (h_1 : MS)  : F_X4_delays_B4 m x1_1 x2_1 (pu m ad h_1 h) = Option.map (Sum.map (fun q => (q.1, q.2.1, pu m ad q.2.2 h)) (fun q => (q.1, pu m ad q.2 h))) (P_X4_delays_B4 x1_1 x2_1 h_1) := by
  unfold F_X4_delays_B4 P_X4_delays_B4
  simp only [bind_pu, b2_pu, bind_map9, map_bind9, map_pb29, map_ite9, map_some9, map_none9, bind_some9, r_isO, r_aldI W, r_astI W, mv0, mv1, mv2, mv4, mv6, mv9, mv10, mv13, mv14, mv15, mv17, mv18, r_getR0, r_getR1, r_getR2, r_getR4, r_getR6, r_getR9, r_getR10, r_getR13, r_getR14, r_getR15, r_getR17, r_getR18, r_getJ, r_putJ W, r_getI3, r_getI5, r_getI7, r_getI8, r_getI11, r_getI16, r_getI19, r_getI20, r_getI21, r_getI22, r_getI23, r_getI24, r_getI25, r_getI26, r_getI27, r_getI28, r_putI3 W, r_putI5 W, r_putI7 W, r_putI8 W, r_putI11 W, r_putI16 W, r_putI19 W, r_putI20 W, r_putI21 W, r_putI22 W, r_putI23 W, r_putI24 W, r_putI25 W, r_putI26 W, r_putI27 W, r_putI28 W, Sum.map_inl, Sum.map_inr, id_eq, eJ19 W, eJ20 W, e_X4_most W]
theorem l_X4_delays_B4 {m : Nat} {ad : Nat → Nat} {h : HH} (W : WFM m ad h)   (n : Nat) (x1_1 : Int32) (x2_1 : Int32) (h_1 : MS) : lp (fun z => F_X4_delays_B4 m z.1 z.2.1 z.2.2) n (x1_1, x2_1, pu m ad h_1 h) = Option.map (fun q => (q.1, pu m ad q.2 h)) (lp (fun z => P_X4_delays_B4  z.1 z.2.1 z.2.2) n (x1_1, x2_1, h_1)) := by
  have := lp_map9 (B := fun z => F_X4_delays_B4 m z.1 z.2.1 z.2.2) (B' := fun z => P_X4_delays_B4  z.1 z.2.1 z.2.2) (fun q => (q.1, q.2.1, pu m ad q.2.2 h)) (fun q => (q.1, pu m ad q.2 h)) (fun z => e_X4_delays_B4 W  z.1 z.2.1 z.2.2 ) n (x1_1, x2_1, h_1)
  exact this
def P_X4_delays (h0 : MS) : Option (Int32 × MS) :=
  Option.bind (lp (fun z => P_X4_delays_B4 z.1 z.2.1 z.2.2) 100000 ((0 : Int32), (0 : Int32), h0)) fun q0_9 =>
  some (q0_9.1, q0_9.2)
set_option maxHeartbeats 1000000 in
theorem e_X4_delays {m : Nat} {ad : Nat → Nat} {h : HH} (W : WFM m ad h) (h0 : MS)  : F_X4_delays m (pu m ad h0 h) = Option.map ((fun q => (q.1, pu m ad q.2 h))) (P_X4_delays h0) := by
  unfold F_X4_delays P_X4_delays
  simp only [bind_pu, b2_pu, bind_map9, map_bind9, map_pb29, map_ite9, map_some9, map_none9, bind_some9, r_isO, r_aldI W, r_astI W, mv0, mv1, mv2, mv4, mv6, mv9, mv10, mv13, mv14, mv15, mv17, mv18, r_getR0, r_getR1, r_getR2, r_getR4, r_getR6, r_getR9, r_getR10, r_getR13, r_getR14, r_getR15, r_getR17, r_getR18, r_getJ, r_putJ W, r_getI3, r_getI5, r_getI7, r_getI8, r_getI11, r_getI16, r_getI19, r_getI20, r_getI21, r_getI22, r_getI23, r_getI24, r_getI25, r_getI26, r_getI27, r_getI28, r_putI3 W, r_putI5 W, r_putI7 W, r_putI8 W, r_putI11 W, r_putI16 W, r_putI19 W, r_putI20 W, r_putI21 W, r_putI22 W, r_putI23 W, r_putI24 W, r_putI25 W, r_putI26 W, r_putI27 W, r_putI28 W, Sum.map_inl, Sum.map_inr, id_eq, eJ19 W, eJ20 W, l_X4_delays_B4 W]
def P_X4_goDelay (h0 : MS) : Option (Int32 × MS) :=

  pb2 (P_X4_looks h0) fun v3 h2 =>
  if v3 = 0 then (
    some ((-12 : Int32), h2)
  ) else (
    pb2 (P_X4_delays h2) fun v7 h6 =>
    pb2 (P_X4_tells v7 h6) fun v10 h9 =>
    some (v10, h9)
  )
set_option maxHeartbeats 1000000 in
theorem e_X4_goDelay {m : Nat} {ad : Nat → Nat} {h : HH} (W : WFM m ad h) (h0 : MS)  : F_X4_goDelay m (pu m ad h0 h) = Option.map ((fun q => (q.1, pu m ad q.2 h))) (P_X4_goDelay h0) := by
  unfold F_X4_goDelay P_X4_goDelay
  simp only [bind_pu, b2_pu, bind_map9, map_bind9, map_pb29, map_ite9, map_some9, map_none9, bind_some9, r_isO, r_aldI W, r_astI W, mv0, mv1, mv2, mv4, mv6, mv9, mv10, mv13, mv14, mv15, mv17, mv18, r_getR0, r_getR1, r_getR2, r_getR4, r_getR6, r_getR9, r_getR10, r_getR13, r_getR14, r_getR15, r_getR17, r_getR18, r_getJ, r_putJ W, r_getI3, r_getI5, r_getI7, r_getI8, r_getI11, r_getI16, r_getI19, r_getI20, r_getI21, r_getI22, r_getI23, r_getI24, r_getI25, r_getI26, r_getI27, r_getI28, r_putI3 W, r_putI5 W, r_putI7 W, r_putI8 W, r_putI11 W, r_putI16 W, r_putI19 W, r_putI20 W, r_putI21 W, r_putI22 W, r_putI23 W, r_putI24 W, r_putI25 W, r_putI26 W, r_putI27 W, r_putI28 W, Sum.map_inl, Sum.map_inr, id_eq, eJ19 W, eJ20 W, e_X4_delays W, e_X4_looks W, e_X4_tells W]
def P_X4_delay (h0 : MS) : Option (Int32 × MS) :=

  Option.bind (P_X4_begins h0) fun h2 =>
  pb2 (P_X4_goDelay h2) fun v5 h4 =>
  pb2 (P_X4_only v5 h4) fun v8 h7 =>
  some (v8, h7)
set_option maxHeartbeats 1000000 in
theorem e_X4_delay {m : Nat} {ad : Nat → Nat} {h : HH} (W : WFM m ad h) (h0 : MS)  : F_X4_delay m (pu m ad h0 h) = Option.map ((fun q => (q.1, pu m ad q.2 h))) (P_X4_delay h0) := by
  unfold F_X4_delay P_X4_delay
  simp only [bind_pu, b2_pu, bind_map9, map_bind9, map_pb29, map_ite9, map_some9, map_none9, bind_some9, r_isO, r_aldI W, r_astI W, mv0, mv1, mv2, mv4, mv6, mv9, mv10, mv13, mv14, mv15, mv17, mv18, r_getR0, r_getR1, r_getR2, r_getR4, r_getR6, r_getR9, r_getR10, r_getR13, r_getR14, r_getR15, r_getR17, r_getR18, r_getJ, r_putJ W, r_getI3, r_getI5, r_getI7, r_getI8, r_getI11, r_getI16, r_getI19, r_getI20, r_getI21, r_getI22, r_getI23, r_getI24, r_getI25, r_getI26, r_getI27, r_getI28, r_putI3 W, r_putI5 W, r_putI7 W, r_putI8 W, r_putI11 W, r_putI16 W, r_putI19 W, r_putI20 W, r_putI21 W, r_putI22 W, r_putI23 W, r_putI24 W, r_putI25 W, r_putI26 W, r_putI27 W, r_putI28 W, Sum.map_inl, Sum.map_inr, id_eq, eJ19 W, eJ20 W, e_X4_begins W, e_X4_goDelay W, e_X4_only W]
def P_X4_toldBounds (h0 : MS) : Option (Int32 × MS) :=

  pb2 (P_X4_tells (0 : Int32) h0) fun v3 h2 =>
  if v3 = (-12 : Int32) then (
    some ((-12 : Int32), h2)
  ) else (
    Option.bind (P_X4_changed h2) fun v6 =>
    some (v6, h2)
  )
set_option maxHeartbeats 1000000 in
theorem e_X4_toldBounds {m : Nat} {ad : Nat → Nat} {h : HH} (W : WFM m ad h) (h0 : MS)  : F_X4_toldBounds m (pu m ad h0 h) = Option.map ((fun q => (q.1, pu m ad q.2 h))) (P_X4_toldBounds h0) := by
  unfold F_X4_toldBounds P_X4_toldBounds
  simp only [bind_pu, b2_pu, bind_map9, map_bind9, map_pb29, map_ite9, map_some9, map_none9, bind_some9, r_isO, r_aldI W, r_astI W, mv0, mv1, mv2, mv4, mv6, mv9, mv10, mv13, mv14, mv15, mv17, mv18, r_getR0, r_getR1, r_getR2, r_getR4, r_getR6, r_getR9, r_getR10, r_getR13, r_getR14, r_getR15, r_getR17, r_getR18, r_getJ, r_putJ W, r_getI3, r_getI5, r_getI7, r_getI8, r_getI11, r_getI16, r_getI19, r_getI20, r_getI21, r_getI22, r_getI23, r_getI24, r_getI25, r_getI26, r_getI27, r_getI28, r_putI3 W, r_putI5 W, r_putI7 W, r_putI8 W, r_putI11 W, r_putI16 W, r_putI19 W, r_putI20 W, r_putI21 W, r_putI22 W, r_putI23 W, r_putI24 W, r_putI25 W, r_putI26 W, r_putI27 W, r_putI28 W, Sum.map_inl, Sum.map_inr, id_eq, eJ19 W, eJ20 W, e_X4_changed W, e_X4_tells W]
def P_X4_goWayBack_B21 (x1_5 : Int32) (x2_7 : Int32) (x3_7 : Int32) (h_5 : MS) : Option ((Int32 × Int32) ⊕ Int32) :=
  if (3 : Int32) ≤ x3_7 then (
    some (.inr x2_7)
  ) else (
    if x3_7 = x1_5 then (
      some (.inl (x2_7, (x3_7 + (1 : Int32))))
    ) else (
      Option.bind (rd h_5 9 (((4 : Int32) * x3_7) + x1_5)) fun v11 =>
      some (.inl ((F_X4_less x2_7 v11), (x3_7 + (1 : Int32))))
    )
  )
set_option maxHeartbeats 1000000 in
theorem e_X4_goWayBack_B21 {m : Nat} {ad : Nat → Nat} {h : HH} (W : WFM m ad h) (x1_5 : Int32) (x2_7 : Int32) (x3_7 : Int32) (h_5 : MS)  : F_X4_goWayBack_B21 m x1_5 x2_7 x3_7 (pu m ad h_5 h) = P_X4_goWayBack_B21 x1_5 x2_7 x3_7 h_5 := by
  unfold F_X4_goWayBack_B21 P_X4_goWayBack_B21
  simp only [bind_pu, b2_pu, bind_map9, map_bind9, map_pb29, map_ite9, map_some9, map_none9, bind_some9, r_isO, r_aldI W, r_astI W, mv0, mv1, mv2, mv4, mv6, mv9, mv10, mv13, mv14, mv15, mv17, mv18, r_getR0, r_getR1, r_getR2, r_getR4, r_getR6, r_getR9, r_getR10, r_getR13, r_getR14, r_getR15, r_getR17, r_getR18, r_getJ, r_putJ W, r_getI3, r_getI5, r_getI7, r_getI8, r_getI11, r_getI16, r_getI19, r_getI20, r_getI21, r_getI22, r_getI23, r_getI24, r_getI25, r_getI26, r_getI27, r_getI28, r_putI3 W, r_putI5 W, r_putI7 W, r_putI8 W, r_putI11 W, r_putI16 W, r_putI19 W, r_putI20 W, r_putI21 W, r_putI22 W, r_putI23 W, r_putI24 W, r_putI25 W, r_putI26 W, r_putI27 W, r_putI28 W, Sum.map_inl, Sum.map_inr, id_eq, eJ19 W, eJ20 W]
def P_X4_goWayBack_B12 (x1_5 : Int32) (h_5 : MS) : Option ((Int32 × MS) ⊕ MS) :=
  if (3 : Int32) ≤ x1_5 then (
    some (.inr h_5)
  ) else (
    Option.bind (lp (fun z => P_X4_goWayBack_B21 x1_5 z.1 z.2 h_5) 100000 ((0 : Int32), (0 : Int32))) fun v12 =>
    Option.bind (wr h_5 9 ((12 : Int32) + x1_5) v12) fun h14 =>
    some (.inl ((x1_5 + (1 : Int32)), h14))
  )
set_option maxHeartbeats 1000000 in
theorem e_X4_goWayBack_B12 {m : Nat} {ad : Nat → Nat} {h : HH} (W : WFM m ad h) (x1_5 : Int32) (h_5 : MS)  : F_X4_goWayBack_B12 m x1_5 (pu m ad h_5 h) = Option.map (Sum.map (fun q => (q.1, pu m ad q.2 h)) (fun S => pu m ad S h)) (P_X4_goWayBack_B12 x1_5 h_5) := by
  unfold F_X4_goWayBack_B12 P_X4_goWayBack_B12
  simp only [bind_pu, b2_pu, bind_map9, map_bind9, map_pb29, map_ite9, map_some9, map_none9, bind_some9, r_isO, r_aldI W, r_astI W, mv0, mv1, mv2, mv4, mv6, mv9, mv10, mv13, mv14, mv15, mv17, mv18, r_getR0, r_getR1, r_getR2, r_getR4, r_getR6, r_getR9, r_getR10, r_getR13, r_getR14, r_getR15, r_getR17, r_getR18, r_getJ, r_putJ W, r_getI3, r_getI5, r_getI7, r_getI8, r_getI11, r_getI16, r_getI19, r_getI20, r_getI21, r_getI22, r_getI23, r_getI24, r_getI25, r_getI26, r_getI27, r_getI28, r_putI3 W, r_putI5 W, r_putI7 W, r_putI8 W, r_putI11 W, r_putI16 W, r_putI19 W, r_putI20 W, r_putI21 W, r_putI22 W, r_putI23 W, r_putI24 W, r_putI25 W, r_putI26 W, r_putI27 W, r_putI28 W, Sum.map_inl, Sum.map_inr, id_eq, eJ19 W, eJ20 W, e_X4_goWayBack_B21 W]
theorem l_X4_goWayBack_B12 {m : Nat} {ad : Nat → Nat} {h : HH} (W : WFM m ad h)   (n : Nat) (x1_5 : Int32) (h_5 : MS) : lp (fun z => F_X4_goWayBack_B12 m z.1 z.2) n (x1_5, pu m ad h_5 h) = Option.map (fun S => pu m ad S h) (lp (fun z => P_X4_goWayBack_B12  z.1 z.2) n (x1_5, h_5)) := by
  have := lp_map9 (B := fun z => F_X4_goWayBack_B12 m z.1 z.2) (B' := fun z => P_X4_goWayBack_B12  z.1 z.2) (fun q => (q.1, pu m ad q.2 h)) (fun S => pu m ad S h) (fun z => e_X4_goWayBack_B12 W  z.1 z.2 ) n (x1_5, h_5)
  exact this
def P_X4_goWayBack (h0 : MS) : Option (Int32 × MS) :=

  pb2 (P_X4_looks h0) fun v3 h2 =>
  if v3 = 0 then (
    some ((-12 : Int32), h2)
  ) else (
    Option.bind (lp (fun z => P_X4_goWayBack_B12 z.1 z.2) 100000 ((0 : Int32), h2)) fun h17 =>
    pb2 (P_X4_toldBounds h17) fun v20 h19 =>
    some (v20, h19)
  )
set_option maxHeartbeats 1000000 in
theorem e_X4_goWayBack {m : Nat} {ad : Nat → Nat} {h : HH} (W : WFM m ad h) (h0 : MS)  : F_X4_goWayBack m (pu m ad h0 h) = Option.map ((fun q => (q.1, pu m ad q.2 h))) (P_X4_goWayBack h0) := by
  unfold F_X4_goWayBack P_X4_goWayBack
  simp only [bind_pu, b2_pu, bind_map9, map_bind9, map_pb29, map_ite9, map_some9, map_none9, bind_some9, r_isO, r_aldI W, r_astI W, mv0, mv1, mv2, mv4, mv6, mv9, mv10, mv13, mv14, mv15, mv17, mv18, r_getR0, r_getR1, r_getR2, r_getR4, r_getR6, r_getR9, r_getR10, r_getR13, r_getR14, r_getR15, r_getR17, r_getR18, r_getJ, r_putJ W, r_getI3, r_getI5, r_getI7, r_getI8, r_getI11, r_getI16, r_getI19, r_getI20, r_getI21, r_getI22, r_getI23, r_getI24, r_getI25, r_getI26, r_getI27, r_getI28, r_putI3 W, r_putI5 W, r_putI7 W, r_putI8 W, r_putI11 W, r_putI16 W, r_putI19 W, r_putI20 W, r_putI21 W, r_putI22 W, r_putI23 W, r_putI24 W, r_putI25 W, r_putI26 W, r_putI27 W, r_putI28 W, Sum.map_inl, Sum.map_inr, id_eq, eJ19 W, eJ20 W, l_X4_goWayBack_B12 W, e_X4_looks W, e_X4_toldBounds W]
def P_X4_goBackInTime (h0 : MS) : Option (Int32 × MS) :=

  Option.bind (P_X4_begins h0) fun h2 =>
  pb2 (P_X4_goWayBack h2) fun v5 h4 =>
  pb2 (P_X4_only v5 h4) fun v8 h7 =>
  some (v8, h7)
set_option maxHeartbeats 1000000 in
theorem e_X4_goBackInTime {m : Nat} {ad : Nat → Nat} {h : HH} (W : WFM m ad h) (h0 : MS)  : F_X4_goBackInTime m (pu m ad h0 h) = Option.map ((fun q => (q.1, pu m ad q.2 h))) (P_X4_goBackInTime h0) := by
  unfold F_X4_goBackInTime P_X4_goBackInTime
  simp only [bind_pu, b2_pu, bind_map9, map_bind9, map_pb29, map_ite9, map_some9, map_none9, bind_some9, r_isO, r_aldI W, r_astI W, mv0, mv1, mv2, mv4, mv6, mv9, mv10, mv13, mv14, mv15, mv17, mv18, r_getR0, r_getR1, r_getR2, r_getR4, r_getR6, r_getR9, r_getR10, r_getR13, r_getR14, r_getR15, r_getR17, r_getR18, r_getJ, r_putJ W, r_getI3, r_getI5, r_getI7, r_getI8, r_getI11, r_getI16, r_getI19, r_getI20, r_getI21, r_getI22, r_getI23, r_getI24, r_getI25, r_getI26, r_getI27, r_getI28, r_putI3 W, r_putI5 W, r_putI7 W, r_putI8 W, r_putI11 W, r_putI16 W, r_putI19 W, r_putI20 W, r_putI21 W, r_putI22 W, r_putI23 W, r_putI24 W, r_putI25 W, r_putI26 W, r_putI27 W, r_putI28 W, Sum.map_inl, Sum.map_inr, id_eq, eJ19 W, eJ20 W, e_X4_begins W, e_X4_goWayBack W, e_X4_only W]
def P_X4_goFree_B22 (a1 : Int32) (x2_6 : Int32) (h_6 : MS) : Option ((Int32 × MS) ⊕ MS) :=
  if (4 : Int32) ≤ x2_6 then (
    some (.inr h_6)
  ) else (
    if x2_6 = a1 then (
      some (.inl ((x2_6 + (1 : Int32)), h_6))
    ) else (
      Option.bind (wr h_6 9 (((4 : Int32) * a1) + x2_6) (100000 : Int32)) fun h10 =>
      Option.bind (rd h10 9 (((4 : Int32) * x2_6) + (3 : Int32))) fun v13 =>
      Option.bind (wr h10 9 (((4 : Int32) * x2_6) + a1) v13) fun h14 =>
      some (.inl ((x2_6 + (1 : Int32)), h14))
    )
  )
set_option maxHeartbeats 1000000 in
theorem e_X4_goFree_B22 {m : Nat} {ad : Nat → Nat} {h : HH} (W : WFM m ad h) (a1 : Int32) (x2_6 : Int32) (h_6 : MS)  : F_X4_goFree_B22 m a1 x2_6 (pu m ad h_6 h) = Option.map (Sum.map (fun q => (q.1, pu m ad q.2 h)) (fun S => pu m ad S h)) (P_X4_goFree_B22 a1 x2_6 h_6) := by
  unfold F_X4_goFree_B22 P_X4_goFree_B22
  simp only [bind_pu, b2_pu, bind_map9, map_bind9, map_pb29, map_ite9, map_some9, map_none9, bind_some9, r_isO, r_aldI W, r_astI W, mv0, mv1, mv2, mv4, mv6, mv9, mv10, mv13, mv14, mv15, mv17, mv18, r_getR0, r_getR1, r_getR2, r_getR4, r_getR6, r_getR9, r_getR10, r_getR13, r_getR14, r_getR15, r_getR17, r_getR18, r_getJ, r_putJ W, r_getI3, r_getI5, r_getI7, r_getI8, r_getI11, r_getI16, r_getI19, r_getI20, r_getI21, r_getI22, r_getI23, r_getI24, r_getI25, r_getI26, r_getI27, r_getI28, r_putI3 W, r_putI5 W, r_putI7 W, r_putI8 W, r_putI11 W, r_putI16 W, r_putI19 W, r_putI20 W, r_putI21 W, r_putI22 W, r_putI23 W, r_putI24 W, r_putI25 W, r_putI26 W, r_putI27 W, r_putI28 W, Sum.map_inl, Sum.map_inr, id_eq, eJ19 W, eJ20 W]
theorem l_X4_goFree_B22 {m : Nat} {ad : Nat → Nat} {h : HH} (W : WFM m ad h) (a1 : Int32)  (n : Nat) (x2_6 : Int32) (h_6 : MS) : lp (fun z => F_X4_goFree_B22 m a1 z.1 z.2) n (x2_6, pu m ad h_6 h) = Option.map (fun S => pu m ad S h) (lp (fun z => P_X4_goFree_B22 a1 z.1 z.2) n (x2_6, h_6)) := by
  have := lp_map9 (B := fun z => F_X4_goFree_B22 m a1 z.1 z.2) (B' := fun z => P_X4_goFree_B22 a1 z.1 z.2) (fun q => (q.1, pu m ad q.2 h)) (fun S => pu m ad S h) (fun z => e_X4_goFree_B22 W a1 z.1 z.2 ) n (x2_6, h_6)
  exact this
def P_X4_goFree (a1 : Int32) (h0 : MS) : Option (Int32 × MS) :=
  if (F_X4_isClock a1) = 0 then (
    some ((-11 : Int32), h0)
  ) else (
    pb2 (P_X4_looks h0) fun v4 h3 =>
    if v4 = 0 then (
      some ((-12 : Int32), h3)
    ) else (
      Option.bind (lp (fun z => P_X4_goFree_B22 a1 z.1 z.2) 100000 ((0 : Int32), h3)) fun h15 =>
      Option.bind (wr h15 9 ((12 : Int32) + a1) (0 : Int32)) fun h17 =>
      pb2 (P_X4_toldBounds h17) fun v20 h19 =>
      some (v20, h19)
    )
  )
set_option maxHeartbeats 1000000 in
theorem e_X4_goFree {m : Nat} {ad : Nat → Nat} {h : HH} (W : WFM m ad h) (a1 : Int32) (h0 : MS)  : F_X4_goFree m a1 (pu m ad h0 h) = Option.map ((fun q => (q.1, pu m ad q.2 h))) (P_X4_goFree a1 h0) := by
  unfold F_X4_goFree P_X4_goFree
  simp only [bind_pu, b2_pu, bind_map9, map_bind9, map_pb29, map_ite9, map_some9, map_none9, bind_some9, r_isO, r_aldI W, r_astI W, mv0, mv1, mv2, mv4, mv6, mv9, mv10, mv13, mv14, mv15, mv17, mv18, r_getR0, r_getR1, r_getR2, r_getR4, r_getR6, r_getR9, r_getR10, r_getR13, r_getR14, r_getR15, r_getR17, r_getR18, r_getJ, r_putJ W, r_getI3, r_getI5, r_getI7, r_getI8, r_getI11, r_getI16, r_getI19, r_getI20, r_getI21, r_getI22, r_getI23, r_getI24, r_getI25, r_getI26, r_getI27, r_getI28, r_putI3 W, r_putI5 W, r_putI7 W, r_putI8 W, r_putI11 W, r_putI16 W, r_putI19 W, r_putI20 W, r_putI21 W, r_putI22 W, r_putI23 W, r_putI24 W, r_putI25 W, r_putI26 W, r_putI27 W, r_putI28 W, Sum.map_inl, Sum.map_inr, id_eq, eJ19 W, eJ20 W, l_X4_goFree_B22 W, e_X4_looks W, e_X4_toldBounds W]
def P_X4_setFree (a1 : Int32) (h0 : MS) : Option (Int32 × MS) :=

  Option.bind (P_X4_begins h0) fun h2 =>
  pb2 (P_X4_goFree a1 h2) fun v5 h4 =>
  pb2 (P_X4_ends v5 h4) fun v8 h7 =>
  some (v8, h7)
set_option maxHeartbeats 1000000 in
theorem e_X4_setFree {m : Nat} {ad : Nat → Nat} {h : HH} (W : WFM m ad h) (a1 : Int32) (h0 : MS)  : F_X4_setFree m a1 (pu m ad h0 h) = Option.map ((fun q => (q.1, pu m ad q.2 h))) (P_X4_setFree a1 h0) := by
  unfold F_X4_setFree P_X4_setFree
  simp only [bind_pu, b2_pu, bind_map9, map_bind9, map_pb29, map_ite9, map_some9, map_none9, bind_some9, r_isO, r_aldI W, r_astI W, mv0, mv1, mv2, mv4, mv6, mv9, mv10, mv13, mv14, mv15, mv17, mv18, r_getR0, r_getR1, r_getR2, r_getR4, r_getR6, r_getR9, r_getR10, r_getR13, r_getR14, r_getR15, r_getR17, r_getR18, r_getJ, r_putJ W, r_getI3, r_getI5, r_getI7, r_getI8, r_getI11, r_getI16, r_getI19, r_getI20, r_getI21, r_getI22, r_getI23, r_getI24, r_getI25, r_getI26, r_getI27, r_getI28, r_putI3 W, r_putI5 W, r_putI7 W, r_putI8 W, r_putI11 W, r_putI16 W, r_putI19 W, r_putI20 W, r_putI21 W, r_putI22 W, r_putI23 W, r_putI24 W, r_putI25 W, r_putI26 W, r_putI27 W, r_putI28 W, Sum.map_inl, Sum.map_inr, id_eq, eJ19 W, eJ20 W, e_X4_begins W, e_X4_ends W, e_X4_goFree W]
def P_X4_least (a1 : Int32) (h0 : MS) : Option Int32 :=

  Option.bind (rd h0 9 ((12 : Int32) + a1)) fun v2 =>
  some (-v2)
set_option maxHeartbeats 1000000 in
theorem e_X4_least {m : Nat} {ad : Nat → Nat} {h : HH} (W : WFM m ad h) (a1 : Int32) (h0 : MS)  : F_X4_least m a1 (pu m ad h0 h) = P_X4_least a1 h0 := by
  unfold F_X4_least P_X4_least
  simp only [bind_pu, b2_pu, bind_map9, map_bind9, map_pb29, map_ite9, map_some9, map_none9, bind_some9, r_isO, r_aldI W, r_astI W, mv0, mv1, mv2, mv4, mv6, mv9, mv10, mv13, mv14, mv15, mv17, mv18, r_getR0, r_getR1, r_getR2, r_getR4, r_getR6, r_getR9, r_getR10, r_getR13, r_getR14, r_getR15, r_getR17, r_getR18, r_getJ, r_putJ W, r_getI3, r_getI5, r_getI7, r_getI8, r_getI11, r_getI16, r_getI19, r_getI20, r_getI21, r_getI22, r_getI23, r_getI24, r_getI25, r_getI26, r_getI27, r_getI28, r_putI3 W, r_putI5 W, r_putI7 W, r_putI8 W, r_putI11 W, r_putI16 W, r_putI19 W, r_putI20 W, r_putI21 W, r_putI22 W, r_putI23 W, r_putI24 W, r_putI25 W, r_putI26 W, r_putI27 W, r_putI28 W, Sum.map_inl, Sum.map_inr, id_eq, eJ19 W, eJ20 W]
def P_X4_goCopy_B34 (a1 : Int32) (a2 : Int32) (x3_8 : Int32) (h_8 : MS) : Option ((Int32 × MS) ⊕ MS) :=
  if (4 : Int32) ≤ x3_8 then (
    some (.inr h_8)
  ) else (
    if x3_8 = a1 then (
      some (.inl ((x3_8 + (1 : Int32)), h_8))
    ) else (
      Option.bind (rd h_8 9 (((4 : Int32) * a2) + x3_8)) fun v13 =>
      Option.bind (wr h_8 9 (((4 : Int32) * a1) + x3_8) v13) fun h14 =>
      Option.bind (rd h14 9 (((4 : Int32) * x3_8) + a2)) fun v17 =>
      Option.bind (wr h14 9 (((4 : Int32) * x3_8) + a1) v17) fun h18 =>
      some (.inl ((x3_8 + (1 : Int32)), h18))
    )
  )
set_option maxHeartbeats 1000000 in
theorem e_X4_goCopy_B34 {m : Nat} {ad : Nat → Nat} {h : HH} (W : WFM m ad h) (a1 : Int32) (a2 : Int32) (x3_8 : Int32) (h_8 : MS)  : F_X4_goCopy_B34 m a1 a2 x3_8 (pu m ad h_8 h) = Option.map (Sum.map (fun q => (q.1, pu m ad q.2 h)) (fun S => pu m ad S h)) (P_X4_goCopy_B34 a1 a2 x3_8 h_8) := by
  unfold F_X4_goCopy_B34 P_X4_goCopy_B34
  simp only [bind_pu, b2_pu, bind_map9, map_bind9, map_pb29, map_ite9, map_some9, map_none9, bind_some9, r_isO, r_aldI W, r_astI W, mv0, mv1, mv2, mv4, mv6, mv9, mv10, mv13, mv14, mv15, mv17, mv18, r_getR0, r_getR1, r_getR2, r_getR4, r_getR6, r_getR9, r_getR10, r_getR13, r_getR14, r_getR15, r_getR17, r_getR18, r_getJ, r_putJ W, r_getI3, r_getI5, r_getI7, r_getI8, r_getI11, r_getI16, r_getI19, r_getI20, r_getI21, r_getI22, r_getI23, r_getI24, r_getI25, r_getI26, r_getI27, r_getI28, r_putI3 W, r_putI5 W, r_putI7 W, r_putI8 W, r_putI11 W, r_putI16 W, r_putI19 W, r_putI20 W, r_putI21 W, r_putI22 W, r_putI23 W, r_putI24 W, r_putI25 W, r_putI26 W, r_putI27 W, r_putI28 W, Sum.map_inl, Sum.map_inr, id_eq, eJ19 W, eJ20 W]
theorem l_X4_goCopy_B34 {m : Nat} {ad : Nat → Nat} {h : HH} (W : WFM m ad h) (a1 : Int32) (a2 : Int32)  (n : Nat) (x3_8 : Int32) (h_8 : MS) : lp (fun z => F_X4_goCopy_B34 m a1 a2 z.1 z.2) n (x3_8, pu m ad h_8 h) = Option.map (fun S => pu m ad S h) (lp (fun z => P_X4_goCopy_B34 a1 a2 z.1 z.2) n (x3_8, h_8)) := by
  have := lp_map9 (B := fun z => F_X4_goCopy_B34 m a1 a2 z.1 z.2) (B' := fun z => P_X4_goCopy_B34 a1 a2 z.1 z.2) (fun q => (q.1, pu m ad q.2 h)) (fun S => pu m ad S h) (fun z => e_X4_goCopy_B34 W a1 a2 z.1 z.2 ) n (x3_8, h_8)
  exact this
def P_X4_goCopy (a1 : Int32) (a2 : Int32) (h0 : MS) : Option (Int32 × MS) :=
  if (F_X4_isClock a1) = 0 then (
    some ((-11 : Int32), h0)
  ) else (
    if (F_X4_isClock a2) = 0 then (
      some ((-11 : Int32), h0)
    ) else (
      if a1 = a2 then (
        some ((-11 : Int32), h0)
      ) else (
        pb2 (P_X4_looks h0) fun v6 h5 =>
        if v6 = 0 then (
          some ((-12 : Int32), h5)
        ) else (
          Option.bind (lp (fun z => P_X4_goCopy_B34 a1 a2 z.1 z.2) 100000 ((0 : Int32), h5)) fun h19 =>
          Option.bind (P_X4_least a2 h19) fun v21 =>
          pb2 (P_X4_tells v21 h19) fun v24 h23 =>
          some (v24, h23)
        )
      )
    )
  )
set_option maxHeartbeats 1000000 in
theorem e_X4_goCopy {m : Nat} {ad : Nat → Nat} {h : HH} (W : WFM m ad h) (a1 : Int32) (a2 : Int32) (h0 : MS)  : F_X4_goCopy m a1 a2 (pu m ad h0 h) = Option.map ((fun q => (q.1, pu m ad q.2 h))) (P_X4_goCopy a1 a2 h0) := by
  unfold F_X4_goCopy P_X4_goCopy
  simp only [bind_pu, b2_pu, bind_map9, map_bind9, map_pb29, map_ite9, map_some9, map_none9, bind_some9, r_isO, r_aldI W, r_astI W, mv0, mv1, mv2, mv4, mv6, mv9, mv10, mv13, mv14, mv15, mv17, mv18, r_getR0, r_getR1, r_getR2, r_getR4, r_getR6, r_getR9, r_getR10, r_getR13, r_getR14, r_getR15, r_getR17, r_getR18, r_getJ, r_putJ W, r_getI3, r_getI5, r_getI7, r_getI8, r_getI11, r_getI16, r_getI19, r_getI20, r_getI21, r_getI22, r_getI23, r_getI24, r_getI25, r_getI26, r_getI27, r_getI28, r_putI3 W, r_putI5 W, r_putI7 W, r_putI8 W, r_putI11 W, r_putI16 W, r_putI19 W, r_putI20 W, r_putI21 W, r_putI22 W, r_putI23 W, r_putI24 W, r_putI25 W, r_putI26 W, r_putI27 W, r_putI28 W, Sum.map_inl, Sum.map_inr, id_eq, eJ19 W, eJ20 W, l_X4_goCopy_B34 W, e_X4_least W, e_X4_looks W, e_X4_tells W]
def P_X4_copyClock (a1 : Int32) (a2 : Int32) (h0 : MS) : Option (Int32 × MS) :=

  Option.bind (P_X4_begins h0) fun h2 =>
  pb2 (P_X4_goCopy a1 a2 h2) fun v5 h4 =>
  pb2 (P_X4_ends v5 h4) fun v8 h7 =>
  some (v8, h7)
set_option maxHeartbeats 1000000 in
theorem e_X4_copyClock {m : Nat} {ad : Nat → Nat} {h : HH} (W : WFM m ad h) (a1 : Int32) (a2 : Int32) (h0 : MS)  : F_X4_copyClock m a1 a2 (pu m ad h0 h) = Option.map ((fun q => (q.1, pu m ad q.2 h))) (P_X4_copyClock a1 a2 h0) := by
  unfold F_X4_copyClock P_X4_copyClock
  simp only [bind_pu, b2_pu, bind_map9, map_bind9, map_pb29, map_ite9, map_some9, map_none9, bind_some9, r_isO, r_aldI W, r_astI W, mv0, mv1, mv2, mv4, mv6, mv9, mv10, mv13, mv14, mv15, mv17, mv18, r_getR0, r_getR1, r_getR2, r_getR4, r_getR6, r_getR9, r_getR10, r_getR13, r_getR14, r_getR15, r_getR17, r_getR18, r_getJ, r_putJ W, r_getI3, r_getI5, r_getI7, r_getI8, r_getI11, r_getI16, r_getI19, r_getI20, r_getI21, r_getI22, r_getI23, r_getI24, r_getI25, r_getI26, r_getI27, r_getI28, r_putI3 W, r_putI5 W, r_putI7 W, r_putI8 W, r_putI11 W, r_putI16 W, r_putI19 W, r_putI20 W, r_putI21 W, r_putI22 W, r_putI23 W, r_putI24 W, r_putI25 W, r_putI26 W, r_putI27 W, r_putI28 W, Sum.map_inl, Sum.map_inr, id_eq, eJ19 W, eJ20 W, e_X4_begins W, e_X4_ends W, e_X4_goCopy W]
def P_X4_goShift_B32 (a1 : Int32) (a2 : Int32) (x3_7 : Int32) (h_7 : MS) : Option ((Int32 × MS) ⊕ MS) :=
  if (4 : Int32) ≤ x3_7 then (
    some (.inr h_7)
  ) else (
    if x3_7 = a1 then (
      some (.inl ((x3_7 + (1 : Int32)), h_7))
    ) else (
      Option.bind (rd h_7 9 (((4 : Int32) * a1) + x3_7)) fun v12 =>
      Option.bind (wr h_7 9 (((4 : Int32) * a1) + x3_7) (F_X4_sum v12 a2)) fun h13 =>
      Option.bind (rd h13 9 (((4 : Int32) * x3_7) + a1)) fun v16 =>
      Option.bind (wr h13 9 (((4 : Int32) * x3_7) + a1) (F_X4_sum v16 (-a2))) fun h17 =>
      some (.inl ((x3_7 + (1 : Int32)), h17))
    )
  )
set_option maxHeartbeats 1000000 in
theorem e_X4_goShift_B32 {m : Nat} {ad : Nat → Nat} {h : HH} (W : WFM m ad h) (a1 : Int32) (a2 : Int32) (x3_7 : Int32) (h_7 : MS)  : F_X4_goShift_B32 m a1 a2 x3_7 (pu m ad h_7 h) = Option.map (Sum.map (fun q => (q.1, pu m ad q.2 h)) (fun S => pu m ad S h)) (P_X4_goShift_B32 a1 a2 x3_7 h_7) := by
  unfold F_X4_goShift_B32 P_X4_goShift_B32
  simp only [bind_pu, b2_pu, bind_map9, map_bind9, map_pb29, map_ite9, map_some9, map_none9, bind_some9, r_isO, r_aldI W, r_astI W, mv0, mv1, mv2, mv4, mv6, mv9, mv10, mv13, mv14, mv15, mv17, mv18, r_getR0, r_getR1, r_getR2, r_getR4, r_getR6, r_getR9, r_getR10, r_getR13, r_getR14, r_getR15, r_getR17, r_getR18, r_getJ, r_putJ W, r_getI3, r_getI5, r_getI7, r_getI8, r_getI11, r_getI16, r_getI19, r_getI20, r_getI21, r_getI22, r_getI23, r_getI24, r_getI25, r_getI26, r_getI27, r_getI28, r_putI3 W, r_putI5 W, r_putI7 W, r_putI8 W, r_putI11 W, r_putI16 W, r_putI19 W, r_putI20 W, r_putI21 W, r_putI22 W, r_putI23 W, r_putI24 W, r_putI25 W, r_putI26 W, r_putI27 W, r_putI28 W, Sum.map_inl, Sum.map_inr, id_eq, eJ19 W, eJ20 W]
theorem l_X4_goShift_B32 {m : Nat} {ad : Nat → Nat} {h : HH} (W : WFM m ad h) (a1 : Int32) (a2 : Int32)  (n : Nat) (x3_7 : Int32) (h_7 : MS) : lp (fun z => F_X4_goShift_B32 m a1 a2 z.1 z.2) n (x3_7, pu m ad h_7 h) = Option.map (fun S => pu m ad S h) (lp (fun z => P_X4_goShift_B32 a1 a2 z.1 z.2) n (x3_7, h_7)) := by
  have := lp_map9 (B := fun z => F_X4_goShift_B32 m a1 a2 z.1 z.2) (B' := fun z => P_X4_goShift_B32 a1 a2 z.1 z.2) (fun q => (q.1, pu m ad q.2 h)) (fun S => pu m ad S h) (fun z => e_X4_goShift_B32 W a1 a2 z.1 z.2 ) n (x3_7, h_7)
  exact this
def P_X4_goShift (a1 : Int32) (a2 : Int32) (h0 : MS) : Option (Int32 × MS) :=
  if (F_X4_isClock a1) = 0 then (
    some ((-11 : Int32), h0)
  ) else (
    if (F_X4_in a2 (1 : Int32) (9 : Int32)) = 0 then (
      some ((-11 : Int32), h0)
    ) else (
      pb2 (P_X4_looks h0) fun v5 h4 =>
      if v5 = 0 then (
        some ((-12 : Int32), h4)
      ) else (
        Option.bind (lp (fun z => P_X4_goShift_B32 a1 a2 z.1 z.2) 100000 ((0 : Int32), h4)) fun h18 =>
        Option.bind (P_X4_least a1 h18) fun v20 =>
        pb2 (P_X4_tells v20 h18) fun v23 h22 =>
        some (v23, h22)
      )
    )
  )
set_option maxHeartbeats 1000000 in
theorem e_X4_goShift {m : Nat} {ad : Nat → Nat} {h : HH} (W : WFM m ad h) (a1 : Int32) (a2 : Int32) (h0 : MS)  : F_X4_goShift m a1 a2 (pu m ad h0 h) = Option.map ((fun q => (q.1, pu m ad q.2 h))) (P_X4_goShift a1 a2 h0) := by
  unfold F_X4_goShift P_X4_goShift
  simp only [bind_pu, b2_pu, bind_map9, map_bind9, map_pb29, map_ite9, map_some9, map_none9, bind_some9, r_isO, r_aldI W, r_astI W, mv0, mv1, mv2, mv4, mv6, mv9, mv10, mv13, mv14, mv15, mv17, mv18, r_getR0, r_getR1, r_getR2, r_getR4, r_getR6, r_getR9, r_getR10, r_getR13, r_getR14, r_getR15, r_getR17, r_getR18, r_getJ, r_putJ W, r_getI3, r_getI5, r_getI7, r_getI8, r_getI11, r_getI16, r_getI19, r_getI20, r_getI21, r_getI22, r_getI23, r_getI24, r_getI25, r_getI26, r_getI27, r_getI28, r_putI3 W, r_putI5 W, r_putI7 W, r_putI8 W, r_putI11 W, r_putI16 W, r_putI19 W, r_putI20 W, r_putI21 W, r_putI22 W, r_putI23 W, r_putI24 W, r_putI25 W, r_putI26 W, r_putI27 W, r_putI28 W, Sum.map_inl, Sum.map_inr, id_eq, eJ19 W, eJ20 W, l_X4_goShift_B32 W, e_X4_least W, e_X4_looks W, e_X4_tells W]
def P_X4_shift (a1 : Int32) (a2 : Int32) (h0 : MS) : Option (Int32 × MS) :=

  Option.bind (P_X4_begins h0) fun h2 =>
  pb2 (P_X4_goShift a1 a2 h2) fun v5 h4 =>
  pb2 (P_X4_ends v5 h4) fun v8 h7 =>
  some (v8, h7)
set_option maxHeartbeats 1000000 in
theorem e_X4_shift {m : Nat} {ad : Nat → Nat} {h : HH} (W : WFM m ad h) (a1 : Int32) (a2 : Int32) (h0 : MS)  : F_X4_shift m a1 a2 (pu m ad h0 h) = Option.map ((fun q => (q.1, pu m ad q.2 h))) (P_X4_shift a1 a2 h0) := by
  unfold F_X4_shift P_X4_shift
  simp only [bind_pu, b2_pu, bind_map9, map_bind9, map_pb29, map_ite9, map_some9, map_none9, bind_some9, r_isO, r_aldI W, r_astI W, mv0, mv1, mv2, mv4, mv6, mv9, mv10, mv13, mv14, mv15, mv17, mv18, r_getR0, r_getR1, r_getR2, r_getR4, r_getR6, r_getR9, r_getR10, r_getR13, r_getR14, r_getR15, r_getR17, r_getR18, r_getJ, r_putJ W, r_getI3, r_getI5, r_getI7, r_getI8, r_getI11, r_getI16, r_getI19, r_getI20, r_getI21, r_getI22, r_getI23, r_getI24, r_getI25, r_getI26, r_getI27, r_getI28, r_putI3 W, r_putI5 W, r_putI7 W, r_putI8 W, r_putI11 W, r_putI16 W, r_putI19 W, r_putI20 W, r_putI21 W, r_putI22 W, r_putI23 W, r_putI24 W, r_putI25 W, r_putI26 W, r_putI27 W, r_putI28 W, Sum.map_inl, Sum.map_inr, id_eq, eJ19 W, eJ20 W, e_X4_begins W, e_X4_ends W, e_X4_goShift W]
def P_X4_store (a1 : Int32) (h0 : MS) : Option (Int32 × MS) :=

  Option.bind (P_X4_begins h0) fun h2 =>
  if (F_X4_isSlot a1) = 0 then (
    pb2 (P_X4_fails (1 : Int32) h2) fun v17 h16 =>
    some ((if v17 = (1 : Int32) then (1 : Int32) else (0 : Int32)), h16)
  ) else (
    Option.bind (rd h2 0 ((80 : Int32) + a1)) fun v5 =>
    Option.bind (wr h2 0 ((80 : Int32) + a1) (1 : Int32)) fun h7 =>
    Option.bind (P_X4_carries 0 (0 : Int32) 0 ((16 : Int32) + ((16 : Int32) * a1)) h7) fun h10 =>
    pb2 (P_X4_ends v5 h10) fun v13 h12 =>
    some ((if v13 = (1 : Int32) then (1 : Int32) else (0 : Int32)), h12)
  )
set_option maxHeartbeats 1000000 in
theorem e_X4_store {m : Nat} {ad : Nat → Nat} {h : HH} (W : WFM m ad h) (a1 : Int32) (h0 : MS)  : F_X4_store m a1 (pu m ad h0 h) = Option.map ((fun q => (q.1, pu m ad q.2 h))) (P_X4_store a1 h0) := by
  unfold F_X4_store P_X4_store
  simp only [bind_pu, b2_pu, bind_map9, map_bind9, map_pb29, map_ite9, map_some9, map_none9, bind_some9, r_isO, r_aldI W, r_astI W, mv0, mv1, mv2, mv4, mv6, mv9, mv10, mv13, mv14, mv15, mv17, mv18, r_getR0, r_getR1, r_getR2, r_getR4, r_getR6, r_getR9, r_getR10, r_getR13, r_getR14, r_getR15, r_getR17, r_getR18, r_getJ, r_putJ W, r_getI3, r_getI5, r_getI7, r_getI8, r_getI11, r_getI16, r_getI19, r_getI20, r_getI21, r_getI22, r_getI23, r_getI24, r_getI25, r_getI26, r_getI27, r_getI28, r_putI3 W, r_putI5 W, r_putI7 W, r_putI8 W, r_putI11 W, r_putI16 W, r_putI19 W, r_putI20 W, r_putI21 W, r_putI22 W, r_putI23 W, r_putI24 W, r_putI25 W, r_putI26 W, r_putI27 W, r_putI28 W, Sum.map_inl, Sum.map_inr, id_eq, eJ19 W, eJ20 W, e_X4_begins W, e_X4_carries W, e_X4_ends W, e_X4_fails W]
def P_X4_hasZone (a1 : Int32) (h0 : MS) : Option Int32 :=

  Option.bind (rd h0 0 ((80 : Int32) + a1)) fun v2 =>
  some (if v2 = (1 : Int32) then (1 : Int32) else (0 : Int32))
set_option maxHeartbeats 1000000 in
theorem e_X4_hasZone {m : Nat} {ad : Nat → Nat} {h : HH} (W : WFM m ad h) (a1 : Int32) (h0 : MS)  : F_X4_hasZone m a1 (pu m ad h0 h) = P_X4_hasZone a1 h0 := by
  unfold F_X4_hasZone P_X4_hasZone
  simp only [bind_pu, b2_pu, bind_map9, map_bind9, map_pb29, map_ite9, map_some9, map_none9, bind_some9, r_isO, r_aldI W, r_astI W, mv0, mv1, mv2, mv4, mv6, mv9, mv10, mv13, mv14, mv15, mv17, mv18, r_getR0, r_getR1, r_getR2, r_getR4, r_getR6, r_getR9, r_getR10, r_getR13, r_getR14, r_getR15, r_getR17, r_getR18, r_getJ, r_putJ W, r_getI3, r_getI5, r_getI7, r_getI8, r_getI11, r_getI16, r_getI19, r_getI20, r_getI21, r_getI22, r_getI23, r_getI24, r_getI25, r_getI26, r_getI27, r_getI28, r_putI3 W, r_putI5 W, r_putI7 W, r_putI8 W, r_putI11 W, r_putI16 W, r_putI19 W, r_putI20 W, r_putI21 W, r_putI22 W, r_putI23 W, r_putI24 W, r_putI25 W, r_putI26 W, r_putI27 W, r_putI28 W, Sum.map_inl, Sum.map_inr, id_eq, eJ19 W, eJ20 W]
def P_X4_meet_B33 (a1 : Int32) (x2_7 : Int32) (h_7 : MS) : Option ((Int32 × MS) ⊕ MS) :=
  if (16 : Int32) ≤ x2_7 then (
    some (.inr h_7)
  ) else (
    Option.bind (rd h_7 0 ((0 : Int32) + x2_7)) fun v11 =>
    Option.bind (rd h_7 0 (((16 : Int32) + ((16 : Int32) * a1)) + x2_7)) fun v13 =>
    Option.bind (wr h_7 0 ((0 : Int32) + x2_7) (F_X4_less v11 v13)) fun h14 =>
    some (.inl ((x2_7 + (1 : Int32)), h14))
  )
set_option maxHeartbeats 1000000 in
theorem e_X4_meet_B33 {m : Nat} {ad : Nat → Nat} {h : HH} (W : WFM m ad h) (a1 : Int32) (x2_7 : Int32) (h_7 : MS)  : F_X4_meet_B33 m a1 x2_7 (pu m ad h_7 h) = Option.map (Sum.map (fun q => (q.1, pu m ad q.2 h)) (fun S => pu m ad S h)) (P_X4_meet_B33 a1 x2_7 h_7) := by
  unfold F_X4_meet_B33 P_X4_meet_B33
  simp only [bind_pu, b2_pu, bind_map9, map_bind9, map_pb29, map_ite9, map_some9, map_none9, bind_some9, r_isO, r_aldI W, r_astI W, mv0, mv1, mv2, mv4, mv6, mv9, mv10, mv13, mv14, mv15, mv17, mv18, r_getR0, r_getR1, r_getR2, r_getR4, r_getR6, r_getR9, r_getR10, r_getR13, r_getR14, r_getR15, r_getR17, r_getR18, r_getJ, r_putJ W, r_getI3, r_getI5, r_getI7, r_getI8, r_getI11, r_getI16, r_getI19, r_getI20, r_getI21, r_getI22, r_getI23, r_getI24, r_getI25, r_getI26, r_getI27, r_getI28, r_putI3 W, r_putI5 W, r_putI7 W, r_putI8 W, r_putI11 W, r_putI16 W, r_putI19 W, r_putI20 W, r_putI21 W, r_putI22 W, r_putI23 W, r_putI24 W, r_putI25 W, r_putI26 W, r_putI27 W, r_putI28 W, Sum.map_inl, Sum.map_inr, id_eq, eJ19 W, eJ20 W]
theorem l_X4_meet_B33 {m : Nat} {ad : Nat → Nat} {h : HH} (W : WFM m ad h) (a1 : Int32)  (n : Nat) (x2_7 : Int32) (h_7 : MS) : lp (fun z => F_X4_meet_B33 m a1 z.1 z.2) n (x2_7, pu m ad h_7 h) = Option.map (fun S => pu m ad S h) (lp (fun z => P_X4_meet_B33 a1 z.1 z.2) n (x2_7, h_7)) := by
  have := lp_map9 (B := fun z => F_X4_meet_B33 m a1 z.1 z.2) (B' := fun z => P_X4_meet_B33 a1 z.1 z.2) (fun q => (q.1, pu m ad q.2 h)) (fun S => pu m ad S h) (fun z => e_X4_meet_B33 W a1 z.1 z.2 ) n (x2_7, h_7)
  exact this
def P_X4_meet (a1 : Int32) (h0 : MS) : Option (Int32 × MS) :=

  Option.bind (P_X4_begins h0) fun h2 =>
  if (F_X4_isSlot a1) = 0 then (
    pb2 (P_X4_fails (1 : Int32) h2) fun v35 h34 =>
    some (v35, h34)
  ) else (
    Option.bind (P_X4_hasZone a1 h2) fun v5 =>
    if v5 = 0 then (
      pb2 (P_X4_fails (2 : Int32) h2) fun v32 h31 =>
      some (v32, h31)
    ) else (
      Option.bind (lp (fun z => P_X4_meet_B33 a1 z.1 z.2) 100000 ((0 : Int32), h2)) fun h15 =>
      pb2 (P_X4_isTooLate h15) fun v18 h17 =>
      if v18 = 0 then (
        Option.bind (P_X4_changed h17) fun v21 =>
        pb2 (P_X4_ends v21 h17) fun v24 h23 =>
        some (v24, h23)
      ) else (
        pb2 (P_X4_ends (-12 : Int32) h17) fun v27 h26 =>
        some (v27, h26)
      )
    )
  )
set_option maxHeartbeats 1000000 in
theorem e_X4_meet {m : Nat} {ad : Nat → Nat} {h : HH} (W : WFM m ad h) (a1 : Int32) (h0 : MS)  : F_X4_meet m a1 (pu m ad h0 h) = Option.map ((fun q => (q.1, pu m ad q.2 h))) (P_X4_meet a1 h0) := by
  unfold F_X4_meet P_X4_meet
  simp only [bind_pu, b2_pu, bind_map9, map_bind9, map_pb29, map_ite9, map_some9, map_none9, bind_some9, r_isO, r_aldI W, r_astI W, mv0, mv1, mv2, mv4, mv6, mv9, mv10, mv13, mv14, mv15, mv17, mv18, r_getR0, r_getR1, r_getR2, r_getR4, r_getR6, r_getR9, r_getR10, r_getR13, r_getR14, r_getR15, r_getR17, r_getR18, r_getJ, r_putJ W, r_getI3, r_getI5, r_getI7, r_getI8, r_getI11, r_getI16, r_getI19, r_getI20, r_getI21, r_getI22, r_getI23, r_getI24, r_getI25, r_getI26, r_getI27, r_getI28, r_putI3 W, r_putI5 W, r_putI7 W, r_putI8 W, r_putI11 W, r_putI16 W, r_putI19 W, r_putI20 W, r_putI21 W, r_putI22 W, r_putI23 W, r_putI24 W, r_putI25 W, r_putI26 W, r_putI27 W, r_putI28 W, Sum.map_inl, Sum.map_inr, id_eq, eJ19 W, eJ20 W, e_X4_begins W, e_X4_changed W, e_X4_ends W, e_X4_fails W, e_X4_hasZone W, e_X4_isTooLate W, l_X4_meet_B33 W]
def P_X4_looksAt (a1 : Int32) (h0 : MS) : Option (Int32 × MS) :=

  Option.bind (P_X4_carries 0 ((16 : Int32) + ((16 : Int32) * a1)) 10 (0 : Int32) h0) fun h3 =>
  pb2 (P_X4_tightens 10 (0 : Int32) h3) fun v6 h5 =>
  Option.bind (okZ v6) fun _ =>
  some (v6, h5)
set_option maxHeartbeats 1000000 in
theorem e_X4_looksAt {m : Nat} {ad : Nat → Nat} {h : HH} (W : WFM m ad h) (a1 : Int32) (h0 : MS)  : F_X4_looksAt m a1 (pu m ad h0 h) = Option.map ((fun q => (q.1, pu m ad q.2 h))) (P_X4_looksAt a1 h0) := by
  unfold F_X4_looksAt P_X4_looksAt
  simp only [bind_pu, b2_pu, bind_map9, map_bind9, map_pb29, map_ite9, map_some9, map_none9, bind_some9, r_isO, r_aldI W, r_astI W, mv0, mv1, mv2, mv4, mv6, mv9, mv10, mv13, mv14, mv15, mv17, mv18, r_getR0, r_getR1, r_getR2, r_getR4, r_getR6, r_getR9, r_getR10, r_getR13, r_getR14, r_getR15, r_getR17, r_getR18, r_getJ, r_putJ W, r_getI3, r_getI5, r_getI7, r_getI8, r_getI11, r_getI16, r_getI19, r_getI20, r_getI21, r_getI22, r_getI23, r_getI24, r_getI25, r_getI26, r_getI27, r_getI28, r_putI3 W, r_putI5 W, r_putI7 W, r_putI8 W, r_putI11 W, r_putI16 W, r_putI19 W, r_putI20 W, r_putI21 W, r_putI22 W, r_putI23 W, r_putI24 W, r_putI25 W, r_putI26 W, r_putI27 W, r_putI28 W, Sum.map_inl, Sum.map_inr, id_eq, eJ19 W, eJ20 W, e_X4_carries W, e_X4_tightens W]
def P_X4_wrap_B58 (a1 : Int32) (y0_45 : Int32) (x3_7 : Int32) (h_7 : MS) : Option ((Int32 × MS) ⊕ MS) :=
  if (16 : Int32) ≤ x3_7 then (
    some (.inr h_7)
  ) else (
    Option.bind (rd h_7 9 x3_7) fun v11 =>
    Option.bind (rd h_7 10 x3_7) fun v13 =>
    Option.bind (wr h_7 0 ((0 : Int32) + x3_7) (F_X4_more v11 v13)) fun h14 =>
    some (.inl ((x3_7 + (1 : Int32)), h14))
  )
set_option maxHeartbeats 1000000 in
theorem e_X4_wrap_B58 {m : Nat} {ad : Nat → Nat} {h : HH} (W : WFM m ad h) (a1 : Int32) (y0_45 : Int32) (x3_7 : Int32) (h_7 : MS)  : F_X4_wrap_B58 m a1 y0_45 x3_7 (pu m ad h_7 h) = Option.map (Sum.map (fun q => (q.1, pu m ad q.2 h)) (fun S => pu m ad S h)) (P_X4_wrap_B58 a1 y0_45 x3_7 h_7) := by
  unfold F_X4_wrap_B58 P_X4_wrap_B58
  simp only [bind_pu, b2_pu, bind_map9, map_bind9, map_pb29, map_ite9, map_some9, map_none9, bind_some9, r_isO, r_aldI W, r_astI W, mv0, mv1, mv2, mv4, mv6, mv9, mv10, mv13, mv14, mv15, mv17, mv18, r_getR0, r_getR1, r_getR2, r_getR4, r_getR6, r_getR9, r_getR10, r_getR13, r_getR14, r_getR15, r_getR17, r_getR18, r_getJ, r_putJ W, r_getI3, r_getI5, r_getI7, r_getI8, r_getI11, r_getI16, r_getI19, r_getI20, r_getI21, r_getI22, r_getI23, r_getI24, r_getI25, r_getI26, r_getI27, r_getI28, r_putI3 W, r_putI5 W, r_putI7 W, r_putI8 W, r_putI11 W, r_putI16 W, r_putI19 W, r_putI20 W, r_putI21 W, r_putI22 W, r_putI23 W, r_putI24 W, r_putI25 W, r_putI26 W, r_putI27 W, r_putI28 W, Sum.map_inl, Sum.map_inr, id_eq, eJ19 W, eJ20 W]
theorem l_X4_wrap_B58 {m : Nat} {ad : Nat → Nat} {h : HH} (W : WFM m ad h) (a1 : Int32) (y0_45 : Int32)  (n : Nat) (x3_7 : Int32) (h_7 : MS) : lp (fun z => F_X4_wrap_B58 m a1 y0_45 z.1 z.2) n (x3_7, pu m ad h_7 h) = Option.map (fun S => pu m ad S h) (lp (fun z => P_X4_wrap_B58 a1 y0_45 z.1 z.2) n (x3_7, h_7)) := by
  have := lp_map9 (B := fun z => F_X4_wrap_B58 m a1 y0_45 z.1 z.2) (B' := fun z => P_X4_wrap_B58 a1 y0_45 z.1 z.2) (fun q => (q.1, pu m ad q.2 h)) (fun S => pu m ad S h) (fun z => e_X4_wrap_B58 W a1 y0_45 z.1 z.2 ) n (x3_7, h_7)
  exact this
def P_X4_wrap_T45 (a1 : Int32) (y0_45 : Int32) (h_45 : MS) : Option (Int32 × MS) :=
  if y0_45 = 0 then (
    pb2 (P_X4_fails (2 : Int32) h_45) fun v31 h30 =>
    some (v31, h30)
  ) else (
    Option.bind (lp (fun z => P_X4_wrap_B58 a1 y0_45 z.1 z.2) 100000 ((0 : Int32), h_45)) fun h15 =>
    Option.bind (P_X4_isTooFar h15) fun v17 =>
    if v17 = 0 then (
      Option.bind (P_X4_changed h15) fun v20 =>
      pb2 (P_X4_ends v20 h15) fun v23 h22 =>
      some (v23, h22)
    ) else (
      pb2 (P_X4_ends (-12 : Int32) h15) fun v26 h25 =>
      some (v26, h25)
    )
  )
set_option maxHeartbeats 1000000 in
theorem e_X4_wrap_T45 {m : Nat} {ad : Nat → Nat} {h : HH} (W : WFM m ad h) (a1 : Int32) (y0_45 : Int32) (h_45 : MS)  : F_X4_wrap_T45 m a1 y0_45 (pu m ad h_45 h) = Option.map ((fun q => (q.1, pu m ad q.2 h))) (P_X4_wrap_T45 a1 y0_45 h_45) := by
  unfold F_X4_wrap_T45 P_X4_wrap_T45
  simp only [bind_pu, b2_pu, bind_map9, map_bind9, map_pb29, map_ite9, map_some9, map_none9, bind_some9, r_isO, r_aldI W, r_astI W, mv0, mv1, mv2, mv4, mv6, mv9, mv10, mv13, mv14, mv15, mv17, mv18, r_getR0, r_getR1, r_getR2, r_getR4, r_getR6, r_getR9, r_getR10, r_getR13, r_getR14, r_getR15, r_getR17, r_getR18, r_getJ, r_putJ W, r_getI3, r_getI5, r_getI7, r_getI8, r_getI11, r_getI16, r_getI19, r_getI20, r_getI21, r_getI22, r_getI23, r_getI24, r_getI25, r_getI26, r_getI27, r_getI28, r_putI3 W, r_putI5 W, r_putI7 W, r_putI8 W, r_putI11 W, r_putI16 W, r_putI19 W, r_putI20 W, r_putI21 W, r_putI22 W, r_putI23 W, r_putI24 W, r_putI25 W, r_putI26 W, r_putI27 W, r_putI28 W, Sum.map_inl, Sum.map_inr, id_eq, eJ19 W, eJ20 W, e_X4_changed W, e_X4_ends W, e_X4_fails W, e_X4_isTooFar W, l_X4_wrap_B58 W]
def P_X4_wrap (a1 : Int32) (h0 : MS) : Option (Int32 × MS) :=

  Option.bind (P_X4_begins h0) fun h2 =>
  if (F_X4_isSlot a1) = 0 then (
    pb2 (P_X4_fails (1 : Int32) h2) fun v43 h42 =>
    some (v43, h42)
  ) else (
    Option.bind (P_X4_hasZone a1 h2) fun v5 =>
    if v5 = 0 then (
      P_X4_wrap_T45 a1 (0 : Int32) h2
    ) else (
      pb2 (P_X4_looks h2) fun v35 h34 =>
      if v35 = 0 then (
        P_X4_wrap_T45 a1 (0 : Int32) h34
      ) else (
        pb2 (P_X4_looksAt a1 h34) fun v39 h38 =>
        if v39 = 0 then (
          P_X4_wrap_T45 a1 (0 : Int32) h38
        ) else (
          P_X4_wrap_T45 a1 (1 : Int32) h38
        )
      )
    )
  )
set_option maxHeartbeats 1000000 in
theorem e_X4_wrap {m : Nat} {ad : Nat → Nat} {h : HH} (W : WFM m ad h) (a1 : Int32) (h0 : MS)  : F_X4_wrap m a1 (pu m ad h0 h) = Option.map ((fun q => (q.1, pu m ad q.2 h))) (P_X4_wrap a1 h0) := by
  unfold F_X4_wrap P_X4_wrap
  simp only [bind_pu, b2_pu, bind_map9, map_bind9, map_pb29, map_ite9, map_some9, map_none9, bind_some9, r_isO, r_aldI W, r_astI W, mv0, mv1, mv2, mv4, mv6, mv9, mv10, mv13, mv14, mv15, mv17, mv18, r_getR0, r_getR1, r_getR2, r_getR4, r_getR6, r_getR9, r_getR10, r_getR13, r_getR14, r_getR15, r_getR17, r_getR18, r_getJ, r_putJ W, r_getI3, r_getI5, r_getI7, r_getI8, r_getI11, r_getI16, r_getI19, r_getI20, r_getI21, r_getI22, r_getI23, r_getI24, r_getI25, r_getI26, r_getI27, r_getI28, r_putI3 W, r_putI5 W, r_putI7 W, r_putI8 W, r_putI11 W, r_putI16 W, r_putI19 W, r_putI20 W, r_putI21 W, r_putI22 W, r_putI23 W, r_putI24 W, r_putI25 W, r_putI26 W, r_putI27 W, r_putI28 W, Sum.map_inl, Sum.map_inr, id_eq, eJ19 W, eJ20 W, e_X4_begins W, e_X4_fails W, e_X4_hasZone W, e_X4_looks W, e_X4_looksAt W, e_X4_wrap_T45 W]
def P_X4_setStay (a1 : Int32) (a2 : Int32) (a3 : Int32) (h0 : MS) : Option (Int32 × MS) :=

  Option.bind (P_X4_begins h0) fun h2 =>
  if (F_X4_isHarbour a1) = 0 then (
    pb2 (P_X4_fails (1 : Int32) h2) fun v6 h5 =>
    some (v6, h5)
  ) else (
    if (F_X4_isClock a2) = 0 then (
      pb2 (P_X4_fails (1 : Int32) h2) fun v10 h9 =>
      some (v10, h9)
    ) else (
      if (F_X4_in a3 (0 : Int32) (10 : Int32)) = 0 then (
        pb2 (P_X4_fails (1 : Int32) h2) fun v21 h20 =>
        some (v21, h20)
      ) else (
        Option.bind (rd h2 0 (((84 : Int32) + ((3 : Int32) * a1)) + a2)) fun v13 =>
        Option.bind (wr h2 0 (((84 : Int32) + ((3 : Int32) * a1)) + a2) a3) fun h15 =>
        pb2 (P_X4_ends v13 h15) fun v18 h17 =>
        some (v18, h17)
      )
    )
  )
set_option maxHeartbeats 1000000 in
theorem e_X4_setStay {m : Nat} {ad : Nat → Nat} {h : HH} (W : WFM m ad h) (a1 : Int32) (a2 : Int32) (a3 : Int32) (h0 : MS)  : F_X4_setStay m a1 a2 a3 (pu m ad h0 h) = Option.map ((fun q => (q.1, pu m ad q.2 h))) (P_X4_setStay a1 a2 a3 h0) := by
  unfold F_X4_setStay P_X4_setStay
  simp only [bind_pu, b2_pu, bind_map9, map_bind9, map_pb29, map_ite9, map_some9, map_none9, bind_some9, r_isO, r_aldI W, r_astI W, mv0, mv1, mv2, mv4, mv6, mv9, mv10, mv13, mv14, mv15, mv17, mv18, r_getR0, r_getR1, r_getR2, r_getR4, r_getR6, r_getR9, r_getR10, r_getR13, r_getR14, r_getR15, r_getR17, r_getR18, r_getJ, r_putJ W, r_getI3, r_getI5, r_getI7, r_getI8, r_getI11, r_getI16, r_getI19, r_getI20, r_getI21, r_getI22, r_getI23, r_getI24, r_getI25, r_getI26, r_getI27, r_getI28, r_putI3 W, r_putI5 W, r_putI7 W, r_putI8 W, r_putI11 W, r_putI16 W, r_putI19 W, r_putI20 W, r_putI21 W, r_putI22 W, r_putI23 W, r_putI24 W, r_putI25 W, r_putI26 W, r_putI27 W, r_putI28 W, Sum.map_inl, Sum.map_inr, id_eq, eJ19 W, eJ20 W, e_X4_begins W, e_X4_ends W, e_X4_fails W]
def P_X4_lays (a1 : Int32) (a2 : Int32) (a3 : Int32) (h0 : MS) : Option MS :=

  Option.bind (wr h0 0 (((103 : Int32) + ((9 : Int32) * a1)) + a2) a3) fun h2 =>
  some h2
set_option maxHeartbeats 1000000 in
theorem e_X4_lays {m : Nat} {ad : Nat → Nat} {h : HH} (W : WFM m ad h) (a1 : Int32) (a2 : Int32) (a3 : Int32) (h0 : MS)  : F_X4_lays m a1 a2 a3 (pu m ad h0 h) = Option.map ((fun S => pu m ad S h)) (P_X4_lays a1 a2 a3 h0) := by
  unfold F_X4_lays P_X4_lays
  simp only [bind_pu, b2_pu, bind_map9, map_bind9, map_pb29, map_ite9, map_some9, map_none9, bind_some9, r_isO, r_aldI W, r_astI W, mv0, mv1, mv2, mv4, mv6, mv9, mv10, mv13, mv14, mv15, mv17, mv18, r_getR0, r_getR1, r_getR2, r_getR4, r_getR6, r_getR9, r_getR10, r_getR13, r_getR14, r_getR15, r_getR17, r_getR18, r_getJ, r_putJ W, r_getI3, r_getI5, r_getI7, r_getI8, r_getI11, r_getI16, r_getI19, r_getI20, r_getI21, r_getI22, r_getI23, r_getI24, r_getI25, r_getI26, r_getI27, r_getI28, r_putI3 W, r_putI5 W, r_putI7 W, r_putI8 W, r_putI11 W, r_putI16 W, r_putI19 W, r_putI20 W, r_putI21 W, r_putI22 W, r_putI23 W, r_putI24 W, r_putI25 W, r_putI26 W, r_putI27 W, r_putI28 W, Sum.map_inl, Sum.map_inr, id_eq, eJ19 W, eJ20 W]
def P_X4_addLine_B61 (a1 : Int32) (a2 : Int32) (k3_15 : Int32) (x4_15 : Int32) (h_15 : MS) : Option ((Int32 × MS) ⊕ MS) :=
  if (3 : Int32) ≤ x4_15 then (
    some (.inr h_15)
  ) else (
    Option.bind (P_X4_lays k3_15 ((5 : Int32) + x4_15) (10 : Int32) h_15) fun h18 =>
    some (.inl ((x4_15 + (1 : Int32)), h18))
  )
set_option maxHeartbeats 1000000 in
theorem e_X4_addLine_B61 {m : Nat} {ad : Nat → Nat} {h : HH} (W : WFM m ad h) (a1 : Int32) (a2 : Int32) (k3_15 : Int32) (x4_15 : Int32) (h_15 : MS)  : F_X4_addLine_B61 m a1 a2 k3_15 x4_15 (pu m ad h_15 h) = Option.map (Sum.map (fun q => (q.1, pu m ad q.2 h)) (fun S => pu m ad S h)) (P_X4_addLine_B61 a1 a2 k3_15 x4_15 h_15) := by
  unfold F_X4_addLine_B61 P_X4_addLine_B61
  simp only [bind_pu, b2_pu, bind_map9, map_bind9, map_pb29, map_ite9, map_some9, map_none9, bind_some9, r_isO, r_aldI W, r_astI W, mv0, mv1, mv2, mv4, mv6, mv9, mv10, mv13, mv14, mv15, mv17, mv18, r_getR0, r_getR1, r_getR2, r_getR4, r_getR6, r_getR9, r_getR10, r_getR13, r_getR14, r_getR15, r_getR17, r_getR18, r_getJ, r_putJ W, r_getI3, r_getI5, r_getI7, r_getI8, r_getI11, r_getI16, r_getI19, r_getI20, r_getI21, r_getI22, r_getI23, r_getI24, r_getI25, r_getI26, r_getI27, r_getI28, r_putI3 W, r_putI5 W, r_putI7 W, r_putI8 W, r_putI11 W, r_putI16 W, r_putI19 W, r_putI20 W, r_putI21 W, r_putI22 W, r_putI23 W, r_putI24 W, r_putI25 W, r_putI26 W, r_putI27 W, r_putI28 W, Sum.map_inl, Sum.map_inr, id_eq, eJ19 W, eJ20 W, e_X4_lays W]
theorem l_X4_addLine_B61 {m : Nat} {ad : Nat → Nat} {h : HH} (W : WFM m ad h) (a1 : Int32) (a2 : Int32) (k3_15 : Int32)  (n : Nat) (x4_15 : Int32) (h_15 : MS) : lp (fun z => F_X4_addLine_B61 m a1 a2 k3_15 z.1 z.2) n (x4_15, pu m ad h_15 h) = Option.map (fun S => pu m ad S h) (lp (fun z => P_X4_addLine_B61 a1 a2 k3_15 z.1 z.2) n (x4_15, h_15)) := by
  have := lp_map9 (B := fun z => F_X4_addLine_B61 m a1 a2 k3_15 z.1 z.2) (B' := fun z => P_X4_addLine_B61 a1 a2 k3_15 z.1 z.2) (fun q => (q.1, pu m ad q.2 h)) (fun S => pu m ad S h) (fun z => e_X4_addLine_B61 W a1 a2 k3_15 z.1 z.2 ) n (x4_15, h_15)
  exact this
def P_X4_addLine (a1 : Int32) (a2 : Int32) (h0 : MS) : Option (Int32 × MS) :=

  Option.bind (P_X4_begins h0) fun h2 =>
  if (F_X4_isHarbour a1) = 0 then (
    pb2 (P_X4_fails (1 : Int32) h2) fun v6 h5 =>
    some (v6, h5)
  ) else (
    if (F_X4_isHarbour a2) = 0 then (
      pb2 (P_X4_fails (1 : Int32) h2) fun v33 h32 =>
      some (v33, h32)
    ) else (
      Option.bind (rd h2 0 (102 : Int32)) fun v9 =>
      if v9 = (10 : Int32) then (
        pb2 (P_X4_fails (2 : Int32) h2) fun v30 h29 =>
        some (v30, h29)
      ) else (
        Option.bind (P_X4_lays v9 (0 : Int32) a1 h2) fun h12 =>
        Option.bind (P_X4_lays v9 (1 : Int32) a2 h12) fun h14 =>
        Option.bind (lp (fun z => P_X4_addLine_B61 a1 a2 v9 z.1 z.2) 100000 ((0 : Int32), h14)) fun h19 =>
        Option.bind (rd h19 0 (102 : Int32)) fun v21 =>
        Option.bind (wr h19 0 (102 : Int32) (v21 + (1 : Int32))) fun h22 =>
        pb2 (P_X4_ends v9 h22) fun v25 h24 =>
        some (v25, h24)
      )
    )
  )
set_option maxHeartbeats 1000000 in
theorem e_X4_addLine {m : Nat} {ad : Nat → Nat} {h : HH} (W : WFM m ad h) (a1 : Int32) (a2 : Int32) (h0 : MS)  : F_X4_addLine m a1 a2 (pu m ad h0 h) = Option.map ((fun q => (q.1, pu m ad q.2 h))) (P_X4_addLine a1 a2 h0) := by
  unfold F_X4_addLine P_X4_addLine
  simp only [bind_pu, b2_pu, bind_map9, map_bind9, map_pb29, map_ite9, map_some9, map_none9, bind_some9, r_isO, r_aldI W, r_astI W, mv0, mv1, mv2, mv4, mv6, mv9, mv10, mv13, mv14, mv15, mv17, mv18, r_getR0, r_getR1, r_getR2, r_getR4, r_getR6, r_getR9, r_getR10, r_getR13, r_getR14, r_getR15, r_getR17, r_getR18, r_getJ, r_putJ W, r_getI3, r_getI5, r_getI7, r_getI8, r_getI11, r_getI16, r_getI19, r_getI20, r_getI21, r_getI22, r_getI23, r_getI24, r_getI25, r_getI26, r_getI27, r_getI28, r_putI3 W, r_putI5 W, r_putI7 W, r_putI8 W, r_putI11 W, r_putI16 W, r_putI19 W, r_putI20 W, r_putI21 W, r_putI22 W, r_putI23 W, r_putI24 W, r_putI25 W, r_putI26 W, r_putI27 W, r_putI28 W, Sum.map_inl, Sum.map_inr, id_eq, eJ19 W, eJ20 W, l_X4_addLine_B61 W, e_X4_begins W, e_X4_ends W, e_X4_fails W, e_X4_lays W]
def P_X4_isLine (a1 : Int32) (h0 : MS) : Option Int32 :=

  Option.bind (rd h0 0 (102 : Int32)) fun v2 =>
  some (F_X4_in a1 (0 : Int32) (v2 - (1 : Int32)))
set_option maxHeartbeats 1000000 in
theorem e_X4_isLine {m : Nat} {ad : Nat → Nat} {h : HH} (W : WFM m ad h) (a1 : Int32) (h0 : MS)  : F_X4_isLine m a1 (pu m ad h0 h) = P_X4_isLine a1 h0 := by
  unfold F_X4_isLine P_X4_isLine
  simp only [bind_pu, b2_pu, bind_map9, map_bind9, map_pb29, map_ite9, map_some9, map_none9, bind_some9, r_isO, r_aldI W, r_astI W, mv0, mv1, mv2, mv4, mv6, mv9, mv10, mv13, mv14, mv15, mv17, mv18, r_getR0, r_getR1, r_getR2, r_getR4, r_getR6, r_getR9, r_getR10, r_getR13, r_getR14, r_getR15, r_getR17, r_getR18, r_getJ, r_putJ W, r_getI3, r_getI5, r_getI7, r_getI8, r_getI11, r_getI16, r_getI19, r_getI20, r_getI21, r_getI22, r_getI23, r_getI24, r_getI25, r_getI26, r_getI27, r_getI28, r_putI3 W, r_putI5 W, r_putI7 W, r_putI8 W, r_putI11 W, r_putI16 W, r_putI19 W, r_putI20 W, r_putI21 W, r_putI22 W, r_putI23 W, r_putI24 W, r_putI25 W, r_putI26 W, r_putI27 W, r_putI28 W, Sum.map_inl, Sum.map_inr, id_eq, eJ19 W, eJ20 W]
def P_X4_line (a1 : Int32) (a2 : Int32) (h0 : MS) : Option Int32 :=

  Option.bind (rd h0 0 (((103 : Int32) + ((9 : Int32) * a1)) + a2)) fun v2 =>
  some v2
set_option maxHeartbeats 1000000 in
theorem e_X4_line {m : Nat} {ad : Nat → Nat} {h : HH} (W : WFM m ad h) (a1 : Int32) (a2 : Int32) (h0 : MS)  : F_X4_line m a1 a2 (pu m ad h0 h) = P_X4_line a1 a2 h0 := by
  unfold F_X4_line P_X4_line
  simp only [bind_pu, b2_pu, bind_map9, map_bind9, map_pb29, map_ite9, map_some9, map_none9, bind_some9, r_isO, r_aldI W, r_astI W, mv0, mv1, mv2, mv4, mv6, mv9, mv10, mv13, mv14, mv15, mv17, mv18, r_getR0, r_getR1, r_getR2, r_getR4, r_getR6, r_getR9, r_getR10, r_getR13, r_getR14, r_getR15, r_getR17, r_getR18, r_getJ, r_putJ W, r_getI3, r_getI5, r_getI7, r_getI8, r_getI11, r_getI16, r_getI19, r_getI20, r_getI21, r_getI22, r_getI23, r_getI24, r_getI25, r_getI26, r_getI27, r_getI28, r_putI3 W, r_putI5 W, r_putI7 W, r_putI8 W, r_putI11 W, r_putI16 W, r_putI19 W, r_putI20 W, r_putI21 W, r_putI22 W, r_putI23 W, r_putI24 W, r_putI25 W, r_putI26 W, r_putI27 W, r_putI28 W, Sum.map_inl, Sum.map_inr, id_eq, eJ19 W, eJ20 W]
def P_X4_setNeed (a1 : Int32) (a2 : Int32) (a3 : Int32) (a4 : Int32) (h0 : MS) : Option (Int32 × MS) :=

  Option.bind (P_X4_begins h0) fun h2 =>
  Option.bind (P_X4_isLine a1 h2) fun v4 =>
  if v4 = 0 then (
    pb2 (P_X4_fails (1 : Int32) h2) fun v8 h7 =>
    some (v8, h7)
  ) else (
    if (F_X4_isClock a2) = 0 then (
      pb2 (P_X4_fails (1 : Int32) h2) fun v12 h11 =>
      some (v12, h11)
    ) else (
      if (F_X4_in a3 (0 : Int32) (9 : Int32)) = 0 then (
        pb2 (P_X4_fails (1 : Int32) h2) fun v16 h15 =>
        some (v16, h15)
      ) else (
        if (F_X4_in a4 a3 (10 : Int32)) = 0 then (
          pb2 (P_X4_fails (1 : Int32) h2) fun v29 h28 =>
          some (v29, h28)
        ) else (
          Option.bind (P_X4_line a1 ((2 : Int32) + a2) h2) fun v19 =>
          Option.bind (P_X4_lays a1 ((2 : Int32) + a2) a3 h2) fun h21 =>
          Option.bind (P_X4_lays a1 ((5 : Int32) + a2) a4 h21) fun h23 =>
          pb2 (P_X4_ends v19 h23) fun v26 h25 =>
          some (v26, h25)
        )
      )
    )
  )
set_option maxHeartbeats 1000000 in
theorem e_X4_setNeed {m : Nat} {ad : Nat → Nat} {h : HH} (W : WFM m ad h) (a1 : Int32) (a2 : Int32) (a3 : Int32) (a4 : Int32) (h0 : MS)  : F_X4_setNeed m a1 a2 a3 a4 (pu m ad h0 h) = Option.map ((fun q => (q.1, pu m ad q.2 h))) (P_X4_setNeed a1 a2 a3 a4 h0) := by
  unfold F_X4_setNeed P_X4_setNeed
  simp only [bind_pu, b2_pu, bind_map9, map_bind9, map_pb29, map_ite9, map_some9, map_none9, bind_some9, r_isO, r_aldI W, r_astI W, mv0, mv1, mv2, mv4, mv6, mv9, mv10, mv13, mv14, mv15, mv17, mv18, r_getR0, r_getR1, r_getR2, r_getR4, r_getR6, r_getR9, r_getR10, r_getR13, r_getR14, r_getR15, r_getR17, r_getR18, r_getJ, r_putJ W, r_getI3, r_getI5, r_getI7, r_getI8, r_getI11, r_getI16, r_getI19, r_getI20, r_getI21, r_getI22, r_getI23, r_getI24, r_getI25, r_getI26, r_getI27, r_getI28, r_putI3 W, r_putI5 W, r_putI7 W, r_putI8 W, r_putI11 W, r_putI16 W, r_putI19 W, r_putI20 W, r_putI21 W, r_putI22 W, r_putI23 W, r_putI24 W, r_putI25 W, r_putI26 W, r_putI27 W, r_putI28 W, Sum.map_inl, Sum.map_inr, id_eq, eJ19 W, eJ20 W, e_X4_begins W, e_X4_ends W, e_X4_fails W, e_X4_isLine W, e_X4_lays W, e_X4_line W]
def P_X4_turnReset_T19 (a1 : Int32) (a2 : Int32) (h_19 : MS) : Option (Int32 × MS) :=

  pb2 (P_X4_fails (1 : Int32) h_19) fun v7 h6 =>
  some ((if v7 = (1 : Int32) then (1 : Int32) else (0 : Int32)), h6)
set_option maxHeartbeats 1000000 in
theorem e_X4_turnReset_T19 {m : Nat} {ad : Nat → Nat} {h : HH} (W : WFM m ad h) (a1 : Int32) (a2 : Int32) (h_19 : MS)  : F_X4_turnReset_T19 m a1 a2 (pu m ad h_19 h) = Option.map ((fun q => (q.1, pu m ad q.2 h))) (P_X4_turnReset_T19 a1 a2 h_19) := by
  unfold F_X4_turnReset_T19 P_X4_turnReset_T19
  simp only [bind_pu, b2_pu, bind_map9, map_bind9, map_pb29, map_ite9, map_some9, map_none9, bind_some9, r_isO, r_aldI W, r_astI W, mv0, mv1, mv2, mv4, mv6, mv9, mv10, mv13, mv14, mv15, mv17, mv18, r_getR0, r_getR1, r_getR2, r_getR4, r_getR6, r_getR9, r_getR10, r_getR13, r_getR14, r_getR15, r_getR17, r_getR18, r_getJ, r_putJ W, r_getI3, r_getI5, r_getI7, r_getI8, r_getI11, r_getI16, r_getI19, r_getI20, r_getI21, r_getI22, r_getI23, r_getI24, r_getI25, r_getI26, r_getI27, r_getI28, r_putI3 W, r_putI5 W, r_putI7 W, r_putI8 W, r_putI11 W, r_putI16 W, r_putI19 W, r_putI20 W, r_putI21 W, r_putI22 W, r_putI23 W, r_putI24 W, r_putI25 W, r_putI26 W, r_putI27 W, r_putI28 W, Sum.map_inl, Sum.map_inr, id_eq, eJ19 W, eJ20 W, e_X4_fails W]
def P_X4_turnReset (a1 : Int32) (a2 : Int32) (h0 : MS) : Option (Int32 × MS) :=

  Option.bind (P_X4_begins h0) fun h2 =>
  Option.bind (P_X4_isLine a1 h2) fun v4 =>
  if v4 = 0 then (
    P_X4_turnReset_T19 a1 a2  h2
  ) else (
    if (F_X4_isClock a2) = 0 then (
      P_X4_turnReset_T19 a1 a2  h2
    ) else (
      Option.bind (P_X4_line a1 (8 : Int32) h2) fun v12 =>
      Option.bind (P_X4_lays a1 (8 : Int32) (v12 ^^^ ((1 : Int32) <<< (a2 &&& 31))) h2) fun h14 =>
      pb2 (P_X4_ends (((v12 ^^^ ((1 : Int32) <<< (a2 &&& 31))) >>> (a2 &&& 31)) &&& (1 : Int32)) h14) fun v17 h16 =>
      some ((if v17 = (1 : Int32) then (1 : Int32) else (0 : Int32)), h16)
    )
  )
set_option maxHeartbeats 1000000 in
theorem e_X4_turnReset {m : Nat} {ad : Nat → Nat} {h : HH} (W : WFM m ad h) (a1 : Int32) (a2 : Int32) (h0 : MS)  : F_X4_turnReset m a1 a2 (pu m ad h0 h) = Option.map ((fun q => (q.1, pu m ad q.2 h))) (P_X4_turnReset a1 a2 h0) := by
  unfold F_X4_turnReset P_X4_turnReset
  simp only [bind_pu, b2_pu, bind_map9, map_bind9, map_pb29, map_ite9, map_some9, map_none9, bind_some9, r_isO, r_aldI W, r_astI W, mv0, mv1, mv2, mv4, mv6, mv9, mv10, mv13, mv14, mv15, mv17, mv18, r_getR0, r_getR1, r_getR2, r_getR4, r_getR6, r_getR9, r_getR10, r_getR13, r_getR14, r_getR15, r_getR17, r_getR18, r_getJ, r_putJ W, r_getI3, r_getI5, r_getI7, r_getI8, r_getI11, r_getI16, r_getI19, r_getI20, r_getI21, r_getI22, r_getI23, r_getI24, r_getI25, r_getI26, r_getI27, r_getI28, r_putI3 W, r_putI5 W, r_putI7 W, r_putI8 W, r_putI11 W, r_putI16 W, r_putI19 W, r_putI20 W, r_putI21 W, r_putI22 W, r_putI23 W, r_putI24 W, r_putI25 W, r_putI26 W, r_putI27 W, r_putI28 W, Sum.map_inl, Sum.map_inr, id_eq, eJ19 W, eJ20 W, e_X4_begins W, e_X4_ends W, e_X4_isLine W, e_X4_lays W, e_X4_line W, e_X4_turnReset_T19 W]
def P_X4_asks (a1 : Int32) (h0 : MS) : Option (Int32 × MS) :=
  Option.bind (piI h0 8 (if a1 = 0 then (1 : Int32) else (0 : Int32))) fun h2 =>
  Option.bind (okZ a1) fun _ =>
  some (a1, h2)
set_option maxHeartbeats 1000000 in
theorem e_X4_asks {m : Nat} {ad : Nat → Nat} {h : HH} (W : WFM m ad h) (a1 : Int32) (h0 : MS)  : F_X4_asks m a1 (pu m ad h0 h) = Option.map ((fun q => (q.1, pu m ad q.2 h))) (P_X4_asks a1 h0) := by
  unfold F_X4_asks P_X4_asks
  simp only [bind_pu, b2_pu, bind_map9, map_bind9, map_pb29, map_ite9, map_some9, map_none9, bind_some9, r_isO, r_aldI W, r_astI W, mv0, mv1, mv2, mv4, mv6, mv9, mv10, mv13, mv14, mv15, mv17, mv18, r_getR0, r_getR1, r_getR2, r_getR4, r_getR6, r_getR9, r_getR10, r_getR13, r_getR14, r_getR15, r_getR17, r_getR18, r_getJ, r_putJ W, r_getI3, r_getI5, r_getI7, r_getI8, r_getI11, r_getI16, r_getI19, r_getI20, r_getI21, r_getI22, r_getI23, r_getI24, r_getI25, r_getI26, r_getI27, r_getI28, r_putI3 W, r_putI5 W, r_putI7 W, r_putI8 W, r_putI11 W, r_putI16 W, r_putI19 W, r_putI20 W, r_putI21 W, r_putI22 W, r_putI23 W, r_putI24 W, r_putI25 W, r_putI26 W, r_putI27 W, r_putI28 W, Sum.map_inl, Sum.map_inr, id_eq, eJ19 W, eJ20 W]
def P_X4_bound (a1 : Nat) (a2 : Int32) (h0 : MS) : Option (Int32 × MS) :=
  Option.bind (rd h0 a1 a2) fun v1 =>
  if v1 = (100000 : Int32) then (
    pb2 (P_X4_fails (2 : Int32) h0) fun v6 h5 =>
    some (v6, h5)
  ) else (
    Option.bind (rd h0 a1 a2) fun v3 =>
    some (v3, h0)
  )
set_option maxHeartbeats 1000000 in
theorem e_X4_bound {m : Nat} {ad : Nat → Nat} {h : HH} (W : WFM m ad h) (a1 : Nat) (a2 : Int32) (h0 : MS) (va1 : a1 ∈ mvl) : F_X4_bound m (some (ad a1)) a2 (pu m ad h0 h) = Option.map ((fun q => (q.1, pu m ad q.2 h))) (P_X4_bound a1 a2 h0) := by
  unfold F_X4_bound P_X4_bound
  simp only [bind_pu, b2_pu, bind_map9, map_bind9, map_pb29, map_ite9, map_some9, map_none9, bind_some9, r_isO, r_aldI W, r_astI W, mv0, mv1, mv2, mv4, mv6, mv9, mv10, mv13, mv14, mv15, mv17, mv18, r_getR0, r_getR1, r_getR2, r_getR4, r_getR6, r_getR9, r_getR10, r_getR13, r_getR14, r_getR15, r_getR17, r_getR18, r_getJ, r_putJ W, r_getI3, r_getI5, r_getI7, r_getI8, r_getI11, r_getI16, r_getI19, r_getI20, r_getI21, r_getI22, r_getI23, r_getI24, r_getI25, r_getI26, r_getI27, r_getI28, r_putI3 W, r_putI5 W, r_putI7 W, r_putI8 W, r_putI11 W, r_putI16 W, r_putI19 W, r_putI20 W, r_putI21 W, r_putI22 W, r_putI23 W, r_putI24 W, r_putI25 W, r_putI26 W, r_putI27 W, r_putI28 W, Sum.map_inl, Sum.map_inr, id_eq, eJ19 W, eJ20 W, e_X4_fails W, va1]
def P_X4_told (a1 : Int32) (a2 : Int32) (h0 : MS) : Option (Int32 × MS) :=

  pb2 (P_X4_asks (F_X4_arePair a1 a2) h0) fun v3 h2 =>
  if v3 = 0 then (
    some ((0 : Int32), h2)
  ) else (
    pb2 (P_X4_bound 0 (((0 : Int32) + ((4 : Int32) * a1)) + a2) h2) fun v8 h7 =>
    some (v8, h7)
  )
set_option maxHeartbeats 1000000 in
theorem e_X4_told {m : Nat} {ad : Nat → Nat} {h : HH} (W : WFM m ad h) (a1 : Int32) (a2 : Int32) (h0 : MS)  : F_X4_told m a1 a2 (pu m ad h0 h) = Option.map ((fun q => (q.1, pu m ad q.2 h))) (P_X4_told a1 a2 h0) := by
  unfold F_X4_told P_X4_told
  simp only [bind_pu, b2_pu, bind_map9, map_bind9, map_pb29, map_ite9, map_some9, map_none9, bind_some9, r_isO, r_aldI W, r_astI W, mv0, mv1, mv2, mv4, mv6, mv9, mv10, mv13, mv14, mv15, mv17, mv18, r_getR0, r_getR1, r_getR2, r_getR4, r_getR6, r_getR9, r_getR10, r_getR13, r_getR14, r_getR15, r_getR17, r_getR18, r_getJ, r_putJ W, r_getI3, r_getI5, r_getI7, r_getI8, r_getI11, r_getI16, r_getI19, r_getI20, r_getI21, r_getI22, r_getI23, r_getI24, r_getI25, r_getI26, r_getI27, r_getI28, r_putI3 W, r_putI5 W, r_putI7 W, r_putI8 W, r_putI11 W, r_putI16 W, r_putI19 W, r_putI20 W, r_putI21 W, r_putI22 W, r_putI23 W, r_putI24 W, r_putI25 W, r_putI26 W, r_putI27 W, r_putI28 W, Sum.map_inl, Sum.map_inr, id_eq, eJ19 W, eJ20 W, e_X4_asks W, e_X4_bound W]
def P_X4_tightened (a1 : Int32) (a2 : Int32) (h0 : MS) : Option (Int32 × MS) :=

  pb2 (P_X4_asks (F_X4_arePair a1 a2) h0) fun v3 h2 =>
  if v3 = 0 then (
    some ((0 : Int32), h2)
  ) else (
    pb2 (P_X4_looks h2) fun v7 h6 =>
    if v7 = 0 then (
      pb2 (P_X4_fails (2 : Int32) h6) fun v11 h10 =>
      some (v11, h10)
    ) else (
      pb2 (P_X4_bound 9 (((4 : Int32) * a1) + a2) h6) fun v15 h14 =>
      some (v15, h14)
    )
  )
set_option maxHeartbeats 1000000 in
theorem e_X4_tightened {m : Nat} {ad : Nat → Nat} {h : HH} (W : WFM m ad h) (a1 : Int32) (a2 : Int32) (h0 : MS)  : F_X4_tightened m a1 a2 (pu m ad h0 h) = Option.map ((fun q => (q.1, pu m ad q.2 h))) (P_X4_tightened a1 a2 h0) := by
  unfold F_X4_tightened P_X4_tightened
  simp only [bind_pu, b2_pu, bind_map9, map_bind9, map_pb29, map_ite9, map_some9, map_none9, bind_some9, r_isO, r_aldI W, r_astI W, mv0, mv1, mv2, mv4, mv6, mv9, mv10, mv13, mv14, mv15, mv17, mv18, r_getR0, r_getR1, r_getR2, r_getR4, r_getR6, r_getR9, r_getR10, r_getR13, r_getR14, r_getR15, r_getR17, r_getR18, r_getJ, r_putJ W, r_getI3, r_getI5, r_getI7, r_getI8, r_getI11, r_getI16, r_getI19, r_getI20, r_getI21, r_getI22, r_getI23, r_getI24, r_getI25, r_getI26, r_getI27, r_getI28, r_putI3 W, r_putI5 W, r_putI7 W, r_putI8 W, r_putI11 W, r_putI16 W, r_putI19 W, r_putI20 W, r_putI21 W, r_putI22 W, r_putI23 W, r_putI24 W, r_putI25 W, r_putI26 W, r_putI27 W, r_putI28 W, Sum.map_inl, Sum.map_inr, id_eq, eJ19 W, eJ20 W, e_X4_asks W, e_X4_bound W, e_X4_fails W, e_X4_looks W]
def P_X4_isTight_B12 (x1_5 : Int32) (x2_5 : Int32) (h3 : MS) : Option ((Int32 × Int32) ⊕ Int32) :=
  if (16 : Int32) ≤ x2_5 then (
    some (.inr x1_5)
  ) else (
    if x1_5 = 0 then (
      some (.inl ((0 : Int32), (x2_5 + (1 : Int32))))
    ) else (
      Option.bind (rd h3 0 ((0 : Int32) + x2_5)) fun v9 =>
      Option.bind (rd h3 9 x2_5) fun v11 =>
      some (.inl ((if v9 = v11 then (1 : Int32) else (0 : Int32)), (x2_5 + (1 : Int32))))
    )
  )
set_option maxHeartbeats 1000000 in
theorem e_X4_isTight_B12 {m : Nat} {ad : Nat → Nat} {h : HH} (W : WFM m ad h) (x1_5 : Int32) (x2_5 : Int32) (h3 : MS)  : F_X4_isTight_B12 m x1_5 x2_5 (pu m ad h3 h) = P_X4_isTight_B12 x1_5 x2_5 h3 := by
  unfold F_X4_isTight_B12 P_X4_isTight_B12
  simp only [bind_pu, b2_pu, bind_map9, map_bind9, map_pb29, map_ite9, map_some9, map_none9, bind_some9, r_isO, r_aldI W, r_astI W, mv0, mv1, mv2, mv4, mv6, mv9, mv10, mv13, mv14, mv15, mv17, mv18, r_getR0, r_getR1, r_getR2, r_getR4, r_getR6, r_getR9, r_getR10, r_getR13, r_getR14, r_getR15, r_getR17, r_getR18, r_getJ, r_putJ W, r_getI3, r_getI5, r_getI7, r_getI8, r_getI11, r_getI16, r_getI19, r_getI20, r_getI21, r_getI22, r_getI23, r_getI24, r_getI25, r_getI26, r_getI27, r_getI28, r_putI3 W, r_putI5 W, r_putI7 W, r_putI8 W, r_putI11 W, r_putI16 W, r_putI19 W, r_putI20 W, r_putI21 W, r_putI22 W, r_putI23 W, r_putI24 W, r_putI25 W, r_putI26 W, r_putI27 W, r_putI28 W, Sum.map_inl, Sum.map_inr, id_eq, eJ19 W, eJ20 W]
def P_X4_isTight (h0 : MS) : Option (Int32 × MS) :=
  Option.bind (piI h0 8 (0 : Int32)) fun h1 =>
  pb2 (P_X4_looks h1) fun v4 h3 =>
  Option.bind (lp (fun z => P_X4_isTight_B12 z.1 z.2 h3) 100000 (v4, (0 : Int32))) fun v13 =>
  Option.bind (okZ v13) fun _ =>
  some (v13, h3)
set_option maxHeartbeats 1000000 in
theorem e_X4_isTight {m : Nat} {ad : Nat → Nat} {h : HH} (W : WFM m ad h) (h0 : MS)  : F_X4_isTight m (pu m ad h0 h) = Option.map ((fun q => (q.1, pu m ad q.2 h))) (P_X4_isTight h0) := by
  unfold F_X4_isTight P_X4_isTight
  simp only [bind_pu, b2_pu, bind_map9, map_bind9, map_pb29, map_ite9, map_some9, map_none9, bind_some9, r_isO, r_aldI W, r_astI W, mv0, mv1, mv2, mv4, mv6, mv9, mv10, mv13, mv14, mv15, mv17, mv18, r_getR0, r_getR1, r_getR2, r_getR4, r_getR6, r_getR9, r_getR10, r_getR13, r_getR14, r_getR15, r_getR17, r_getR18, r_getJ, r_putJ W, r_getI3, r_getI5, r_getI7, r_getI8, r_getI11, r_getI16, r_getI19, r_getI20, r_getI21, r_getI22, r_getI23, r_getI24, r_getI25, r_getI26, r_getI27, r_getI28, r_putI3 W, r_putI5 W, r_putI7 W, r_putI8 W, r_putI11 W, r_putI16 W, r_putI19 W, r_putI20 W, r_putI21 W, r_putI22 W, r_putI23 W, r_putI24 W, r_putI25 W, r_putI26 W, r_putI27 W, r_putI28 W, Sum.map_inl, Sum.map_inr, id_eq, eJ19 W, eJ20 W, e_X4_isTight_B12 W, e_X4_looks W]
def P_X4_hasNone (h0 : MS) : Option (Int32 × MS) :=
  Option.bind (piI h0 8 (0 : Int32)) fun h1 =>
  pb2 (P_X4_looks h1) fun v4 h3 =>
  some ((if v4 = 0 then (1 : Int32) else (0 : Int32)), h3)
set_option maxHeartbeats 1000000 in
theorem e_X4_hasNone {m : Nat} {ad : Nat → Nat} {h : HH} (W : WFM m ad h) (h0 : MS)  : F_X4_hasNone m (pu m ad h0 h) = Option.map ((fun q => (q.1, pu m ad q.2 h))) (P_X4_hasNone h0) := by
  unfold F_X4_hasNone P_X4_hasNone
  simp only [bind_pu, b2_pu, bind_map9, map_bind9, map_pb29, map_ite9, map_some9, map_none9, bind_some9, r_isO, r_aldI W, r_astI W, mv0, mv1, mv2, mv4, mv6, mv9, mv10, mv13, mv14, mv15, mv17, mv18, r_getR0, r_getR1, r_getR2, r_getR4, r_getR6, r_getR9, r_getR10, r_getR13, r_getR14, r_getR15, r_getR17, r_getR18, r_getJ, r_putJ W, r_getI3, r_getI5, r_getI7, r_getI8, r_getI11, r_getI16, r_getI19, r_getI20, r_getI21, r_getI22, r_getI23, r_getI24, r_getI25, r_getI26, r_getI27, r_getI28, r_putI3 W, r_putI5 W, r_putI7 W, r_putI8 W, r_putI11 W, r_putI16 W, r_putI19 W, r_putI20 W, r_putI21 W, r_putI22 W, r_putI23 W, r_putI24 W, r_putI25 W, r_putI26 W, r_putI27 W, r_putI28 W, Sum.map_inl, Sum.map_inr, id_eq, eJ19 W, eJ20 W, e_X4_looks W]
def P_X4_isEmpty (h0 : MS) : Option (Int32 × MS) :=

  pb2 (P_X4_hasNone h0) fun v3 h2 =>
  Option.bind (okZ v3) fun _ =>
  some (v3, h2)
set_option maxHeartbeats 1000000 in
theorem e_X4_isEmpty {m : Nat} {ad : Nat → Nat} {h : HH} (W : WFM m ad h) (h0 : MS)  : F_X4_isEmpty m (pu m ad h0 h) = Option.map ((fun q => (q.1, pu m ad q.2 h))) (P_X4_isEmpty h0) := by
  unfold F_X4_isEmpty P_X4_isEmpty
  simp only [bind_pu, b2_pu, bind_map9, map_bind9, map_pb29, map_ite9, map_some9, map_none9, bind_some9, r_isO, r_aldI W, r_astI W, mv0, mv1, mv2, mv4, mv6, mv9, mv10, mv13, mv14, mv15, mv17, mv18, r_getR0, r_getR1, r_getR2, r_getR4, r_getR6, r_getR9, r_getR10, r_getR13, r_getR14, r_getR15, r_getR17, r_getR18, r_getJ, r_putJ W, r_getI3, r_getI5, r_getI7, r_getI8, r_getI11, r_getI16, r_getI19, r_getI20, r_getI21, r_getI22, r_getI23, r_getI24, r_getI25, r_getI26, r_getI27, r_getI28, r_putI3 W, r_putI5 W, r_putI7 W, r_putI8 W, r_putI11 W, r_putI16 W, r_putI19 W, r_putI20 W, r_putI21 W, r_putI22 W, r_putI23 W, r_putI24 W, r_putI25 W, r_putI26 W, r_putI27 W, r_putI28 W, Sum.map_inl, Sum.map_inr, id_eq, eJ19 W, eJ20 W, e_X4_hasNone W]
def P_X4_isEmptyByMoments (h0 : MS) : Option (Int32 × MS) :=

  pb2 (P_X4_hasNone h0) fun v3 h2 =>
  Option.bind (okZ v3) fun _ =>
  some (v3, h2)
set_option maxHeartbeats 1000000 in
theorem e_X4_isEmptyByMoments {m : Nat} {ad : Nat → Nat} {h : HH} (W : WFM m ad h) (h0 : MS)  : F_X4_isEmptyByMoments m (pu m ad h0 h) = Option.map ((fun q => (q.1, pu m ad q.2 h))) (P_X4_isEmptyByMoments h0) := by
  unfold F_X4_isEmptyByMoments P_X4_isEmptyByMoments
  simp only [bind_pu, b2_pu, bind_map9, map_bind9, map_pb29, map_ite9, map_some9, map_none9, bind_some9, r_isO, r_aldI W, r_astI W, mv0, mv1, mv2, mv4, mv6, mv9, mv10, mv13, mv14, mv15, mv17, mv18, r_getR0, r_getR1, r_getR2, r_getR4, r_getR6, r_getR9, r_getR10, r_getR13, r_getR14, r_getR15, r_getR17, r_getR18, r_getJ, r_putJ W, r_getI3, r_getI5, r_getI7, r_getI8, r_getI11, r_getI16, r_getI19, r_getI20, r_getI21, r_getI22, r_getI23, r_getI24, r_getI25, r_getI26, r_getI27, r_getI28, r_putI3 W, r_putI5 W, r_putI7 W, r_putI8 W, r_putI11 W, r_putI16 W, r_putI19 W, r_putI20 W, r_putI21 W, r_putI22 W, r_putI23 W, r_putI24 W, r_putI25 W, r_putI26 W, r_putI27 W, r_putI28 W, Sum.map_inl, Sum.map_inr, id_eq, eJ19 W, eJ20 W, e_X4_hasNone W]
def P_X4_allows_B6 (a1 : Nat) (a2 : Int32) (a3 : Int32) (a4 : Int32) (a5 : Int32) (x5_1 : Int32) (x6_1 : Int32) (h0 : MS) : Option ((Int32 × Int32) ⊕ Int32) :=
  if (16 : Int32) ≤ x6_1 then (
    some (.inr x5_1)
  ) else (
    if x5_1 = 0 then (
      some (.inl ((0 : Int32), (x6_1 + (1 : Int32))))
    ) else (
      Option.bind (rd h0 a1 (a2 + x6_1)) fun v10 =>
      if v10 = (100000 : Int32) then (
        some (.inl ((1 : Int32), (x6_1 + (1 : Int32))))
      ) else (
        Option.bind (rd h0 a1 (a2 + x6_1)) fun v12 =>
        some (.inl ((if v12 < ((if (x6_1 / (4 : Int32)) = 0 then a3 else (if (x6_1 / (4 : Int32)) = (1 : Int32) then a4 else (if (x6_1 / (4 : Int32)) = (2 : Int32) then a5 else (0 : Int32)))) - (if (x6_1 - x6_1 / (4 : Int32) * (4 : Int32)) = 0 then a3 else (if (x6_1 - x6_1 / (4 : Int32) * (4 : Int32)) = (1 : Int32) then a4 else (if (x6_1 - x6_1 / (4 : Int32) * (4 : Int32)) = (2 : Int32) then a5 else (0 : Int32))))) then (0 : Int32) else (1 : Int32)), (x6_1 + (1 : Int32))))
      )
    )
  )
set_option maxHeartbeats 1000000 in
theorem e_X4_allows_B6 {m : Nat} {ad : Nat → Nat} {h : HH} (W : WFM m ad h) (a1 : Nat) (a2 : Int32) (a3 : Int32) (a4 : Int32) (a5 : Int32) (x5_1 : Int32) (x6_1 : Int32) (h0 : MS) (va1 : a1 ∈ mvl) : F_X4_allows_B6 (some (ad a1)) a2 a3 a4 a5 x5_1 x6_1 (pu m ad h0 h) = P_X4_allows_B6 a1 a2 a3 a4 a5 x5_1 x6_1 h0 := by
  unfold F_X4_allows_B6 P_X4_allows_B6
  simp only [bind_pu, b2_pu, bind_map9, map_bind9, map_pb29, map_ite9, map_some9, map_none9, bind_some9, r_isO, r_aldI W, r_astI W, mv0, mv1, mv2, mv4, mv6, mv9, mv10, mv13, mv14, mv15, mv17, mv18, r_getR0, r_getR1, r_getR2, r_getR4, r_getR6, r_getR9, r_getR10, r_getR13, r_getR14, r_getR15, r_getR17, r_getR18, r_getJ, r_putJ W, r_getI3, r_getI5, r_getI7, r_getI8, r_getI11, r_getI16, r_getI19, r_getI20, r_getI21, r_getI22, r_getI23, r_getI24, r_getI25, r_getI26, r_getI27, r_getI28, r_putI3 W, r_putI5 W, r_putI7 W, r_putI8 W, r_putI11 W, r_putI16 W, r_putI19 W, r_putI20 W, r_putI21 W, r_putI22 W, r_putI23 W, r_putI24 W, r_putI25 W, r_putI26 W, r_putI27 W, r_putI28 W, Sum.map_inl, Sum.map_inr, id_eq, eJ19 W, eJ20 W, va1]
def P_X4_allows (a1 : Nat) (a2 : Int32) (a3 : Int32) (a4 : Int32) (a5 : Int32) (h0 : MS) : Option Int32 :=
  Option.bind (lp (fun z => P_X4_allows_B6 a1 a2 a3 a4 a5 z.1 z.2 h0) 100000 ((1 : Int32), (0 : Int32))) fun v14 =>
  Option.bind (okZ v14) fun _ =>
  some v14
set_option maxHeartbeats 1000000 in
theorem e_X4_allows {m : Nat} {ad : Nat → Nat} {h : HH} (W : WFM m ad h) (a1 : Nat) (a2 : Int32) (a3 : Int32) (a4 : Int32) (a5 : Int32) (h0 : MS) (va1 : a1 ∈ mvl) : F_X4_allows (some (ad a1)) a2 a3 a4 a5 (pu m ad h0 h) = P_X4_allows a1 a2 a3 a4 a5 h0 := by
  unfold F_X4_allows P_X4_allows
  simp only [bind_pu, b2_pu, bind_map9, map_bind9, map_pb29, map_ite9, map_some9, map_none9, bind_some9, r_isO, r_aldI W, r_astI W, mv0, mv1, mv2, mv4, mv6, mv9, mv10, mv13, mv14, mv15, mv17, mv18, r_getR0, r_getR1, r_getR2, r_getR4, r_getR6, r_getR9, r_getR10, r_getR13, r_getR14, r_getR15, r_getR17, r_getR18, r_getJ, r_putJ W, r_getI3, r_getI5, r_getI7, r_getI8, r_getI11, r_getI16, r_getI19, r_getI20, r_getI21, r_getI22, r_getI23, r_getI24, r_getI25, r_getI26, r_getI27, r_getI28, r_putI3 W, r_putI5 W, r_putI7 W, r_putI8 W, r_putI11 W, r_putI16 W, r_putI19 W, r_putI20 W, r_putI21 W, r_putI22 W, r_putI23 W, r_putI24 W, r_putI25 W, r_putI26 W, r_putI27 W, r_putI28 W, Sum.map_inl, Sum.map_inr, id_eq, eJ19 W, eJ20 W, e_X4_allows_B6 W, va1]
def P_X4_hasMoment (a1 : Int32) (a2 : Int32) (a3 : Int32) (h0 : MS) : Option (Int32 × MS) :=

  pb2 (P_X4_asks (F_X4_isMoment a1 a2 a3) h0) fun v3 h2 =>
  if v3 = 0 then (
    some ((0 : Int32), h2)
  ) else (
    Option.bind (P_X4_allows 0 (0 : Int32) a1 a2 a3 h2) fun v6 =>
    some ((if v6 = 0 then (0 : Int32) else (1 : Int32)), h2)
  )
set_option maxHeartbeats 1000000 in
theorem e_X4_hasMoment {m : Nat} {ad : Nat → Nat} {h : HH} (W : WFM m ad h) (a1 : Int32) (a2 : Int32) (a3 : Int32) (h0 : MS)  : F_X4_hasMoment m a1 a2 a3 (pu m ad h0 h) = Option.map ((fun q => (q.1, pu m ad q.2 h))) (P_X4_hasMoment a1 a2 a3 h0) := by
  unfold F_X4_hasMoment P_X4_hasMoment
  simp only [bind_pu, b2_pu, bind_map9, map_bind9, map_pb29, map_ite9, map_some9, map_none9, bind_some9, r_isO, r_aldI W, r_astI W, mv0, mv1, mv2, mv4, mv6, mv9, mv10, mv13, mv14, mv15, mv17, mv18, r_getR0, r_getR1, r_getR2, r_getR4, r_getR6, r_getR9, r_getR10, r_getR13, r_getR14, r_getR15, r_getR17, r_getR18, r_getJ, r_putJ W, r_getI3, r_getI5, r_getI7, r_getI8, r_getI11, r_getI16, r_getI19, r_getI20, r_getI21, r_getI22, r_getI23, r_getI24, r_getI25, r_getI26, r_getI27, r_getI28, r_putI3 W, r_putI5 W, r_putI7 W, r_putI8 W, r_putI11 W, r_putI16 W, r_putI19 W, r_putI20 W, r_putI21 W, r_putI22 W, r_putI23 W, r_putI24 W, r_putI25 W, r_putI26 W, r_putI27 W, r_putI28 W, Sum.map_inl, Sum.map_inr, id_eq, eJ19 W, eJ20 W, e_X4_allows W, e_X4_asks W]
def P_X4_looksAtMoments_T85 (a1 : Int32) (a2 : Int32) (x3_3 : Int32) (x4_5 : Int32) (x5_7 : Int32) (y0_85 : Int32) (h_85 : MS) : Option ((Int32 × MS) ⊕ MS) :=
  Option.bind (pgI h_85 11) fun v11 =>
  Option.bind (piI h_85 11 (v11 + (if y0_85 = 0 then (0 : Int32) else (1 : Int32)))) fun h13 =>
  Option.bind (pgJ h13) fun v14 =>
  Option.bind (piJ h13 (v14 + (if y0_85 = 0 then (0 : Int64) else (if a1 = 0 then (x3_3.toInt64) else (if a1 = (1 : Int32) then (x4_5.toInt64) else (x5_7.toInt64)))))) fun h18 =>
  some (.inl ((x5_7 + (1 : Int32)), h18))
set_option maxHeartbeats 1000000 in
theorem e_X4_looksAtMoments_T85 {m : Nat} {ad : Nat → Nat} {h : HH} (W : WFM m ad h) (a1 : Int32) (a2 : Int32) (x3_3 : Int32) (x4_5 : Int32) (x5_7 : Int32) (y0_85 : Int32) (h_85 : MS)  : F_X4_looksAtMoments_T85 m a1 a2 x3_3 x4_5 x5_7 y0_85 (pu m ad h_85 h) = Option.map (Sum.map (fun q => (q.1, pu m ad q.2 h)) (fun S => pu m ad S h)) (P_X4_looksAtMoments_T85 a1 a2 x3_3 x4_5 x5_7 y0_85 h_85) := by
  unfold F_X4_looksAtMoments_T85 P_X4_looksAtMoments_T85
  simp only [bind_pu, b2_pu, bind_map9, map_bind9, map_pb29, map_ite9, map_some9, map_none9, bind_some9, r_isO, r_aldI W, r_astI W, mv0, mv1, mv2, mv4, mv6, mv9, mv10, mv13, mv14, mv15, mv17, mv18, r_getR0, r_getR1, r_getR2, r_getR4, r_getR6, r_getR9, r_getR10, r_getR13, r_getR14, r_getR15, r_getR17, r_getR18, r_getJ, r_putJ W, r_getI3, r_getI5, r_getI7, r_getI8, r_getI11, r_getI16, r_getI19, r_getI20, r_getI21, r_getI22, r_getI23, r_getI24, r_getI25, r_getI26, r_getI27, r_getI28, r_putI3 W, r_putI5 W, r_putI7 W, r_putI8 W, r_putI11 W, r_putI16 W, r_putI19 W, r_putI20 W, r_putI21 W, r_putI22 W, r_putI23 W, r_putI24 W, r_putI25 W, r_putI26 W, r_putI27 W, r_putI28 W, Sum.map_inl, Sum.map_inr, id_eq, eJ19 W, eJ20 W]
def P_X4_looksAtMoments_B31 (a1 : Int32) (a2 : Int32) (x3_3 : Int32) (x4_5 : Int32) (x5_7 : Int32) (h_7 : MS) : Option ((Int32 × MS) ⊕ MS) :=
  if (30 : Int32) < x5_7 then (
    some (.inr h_7)
  ) else (
    Option.bind (P_X4_allows 0 (0 : Int32) x3_3 x4_5 x5_7 h_7) fun v10 =>
    if v10 = 0 then (
      P_X4_looksAtMoments_T85 a1 a2 x3_3 x4_5 x5_7 (0 : Int32) h_7
    ) else (
      if a2 < 0 then (
        P_X4_looksAtMoments_T85 a1 a2 x3_3 x4_5 x5_7 (1 : Int32) h_7
      ) else (
        Option.bind (P_X4_allows 0 ((16 : Int32) + ((16 : Int32) * a2)) x3_3 x4_5 x5_7 h_7) fun v22 =>
        if v22 = 0 then (
          P_X4_looksAtMoments_T85 a1 a2 x3_3 x4_5 x5_7 (1 : Int32) h_7
        ) else (
          P_X4_looksAtMoments_T85 a1 a2 x3_3 x4_5 x5_7 (0 : Int32) h_7
        )
      )
    )
  )
set_option maxHeartbeats 1000000 in
theorem e_X4_looksAtMoments_B31 {m : Nat} {ad : Nat → Nat} {h : HH} (W : WFM m ad h) (a1 : Int32) (a2 : Int32) (x3_3 : Int32) (x4_5 : Int32) (x5_7 : Int32) (h_7 : MS)  : F_X4_looksAtMoments_B31 m a1 a2 x3_3 x4_5 x5_7 (pu m ad h_7 h) = Option.map (Sum.map (fun q => (q.1, pu m ad q.2 h)) (fun S => pu m ad S h)) (P_X4_looksAtMoments_B31 a1 a2 x3_3 x4_5 x5_7 h_7) := by
  unfold F_X4_looksAtMoments_B31 P_X4_looksAtMoments_B31
  simp only [bind_pu, b2_pu, bind_map9, map_bind9, map_pb29, map_ite9, map_some9, map_none9, bind_some9, r_isO, r_aldI W, r_astI W, mv0, mv1, mv2, mv4, mv6, mv9, mv10, mv13, mv14, mv15, mv17, mv18, r_getR0, r_getR1, r_getR2, r_getR4, r_getR6, r_getR9, r_getR10, r_getR13, r_getR14, r_getR15, r_getR17, r_getR18, r_getJ, r_putJ W, r_getI3, r_getI5, r_getI7, r_getI8, r_getI11, r_getI16, r_getI19, r_getI20, r_getI21, r_getI22, r_getI23, r_getI24, r_getI25, r_getI26, r_getI27, r_getI28, r_putI3 W, r_putI5 W, r_putI7 W, r_putI8 W, r_putI11 W, r_putI16 W, r_putI19 W, r_putI20 W, r_putI21 W, r_putI22 W, r_putI23 W, r_putI24 W, r_putI25 W, r_putI26 W, r_putI27 W, r_putI28 W, Sum.map_inl, Sum.map_inr, id_eq, eJ19 W, eJ20 W, e_X4_allows W, e_X4_looksAtMoments_T85 W]
theorem l_X4_looksAtMoments_B31 {m : Nat} {ad : Nat → Nat} {h : HH} (W : WFM m ad h) (a1 : Int32) (a2 : Int32) (x3_3 : Int32) (x4_5 : Int32)  (n : Nat) (x5_7 : Int32) (h_7 : MS) : lp (fun z => F_X4_looksAtMoments_B31 m a1 a2 x3_3 x4_5 z.1 z.2) n (x5_7, pu m ad h_7 h) = Option.map (fun S => pu m ad S h) (lp (fun z => P_X4_looksAtMoments_B31 a1 a2 x3_3 x4_5 z.1 z.2) n (x5_7, h_7)) := by
  have := lp_map9 (B := fun z => F_X4_looksAtMoments_B31 m a1 a2 x3_3 x4_5 z.1 z.2) (B' := fun z => P_X4_looksAtMoments_B31 a1 a2 x3_3 x4_5 z.1 z.2) (fun q => (q.1, pu m ad q.2 h)) (fun S => pu m ad S h) (fun z => e_X4_looksAtMoments_B31 W a1 a2 x3_3 x4_5 z.1 z.2 ) n (x5_7, h_7)
  exact this
def P_X4_looksAtMoments_B21 (a1 : Int32) (a2 : Int32) (x3_3 : Int32) (x4_5 : Int32) (h_5 : MS) : Option ((Int32 × MS) ⊕ MS) :=
  if (30 : Int32) < x4_5 then (
    some (.inr h_5)
  ) else (
    Option.bind (lp (fun z => P_X4_looksAtMoments_B31 a1 a2 x3_3 x4_5 z.1 z.2) 100000 ((0 : Int32), h_5)) fun h24 =>
    some (.inl ((x4_5 + (1 : Int32)), h24))
  )
set_option maxHeartbeats 1000000 in
theorem e_X4_looksAtMoments_B21 {m : Nat} {ad : Nat → Nat} {h : HH} (W : WFM m ad h) (a1 : Int32) (a2 : Int32) (x3_3 : Int32) (x4_5 : Int32) (h_5 : MS)  : F_X4_looksAtMoments_B21 m a1 a2 x3_3 x4_5 (pu m ad h_5 h) = Option.map (Sum.map (fun q => (q.1, pu m ad q.2 h)) (fun S => pu m ad S h)) (P_X4_looksAtMoments_B21 a1 a2 x3_3 x4_5 h_5) := by
  unfold F_X4_looksAtMoments_B21 P_X4_looksAtMoments_B21
  simp only [bind_pu, b2_pu, bind_map9, map_bind9, map_pb29, map_ite9, map_some9, map_none9, bind_some9, r_isO, r_aldI W, r_astI W, mv0, mv1, mv2, mv4, mv6, mv9, mv10, mv13, mv14, mv15, mv17, mv18, r_getR0, r_getR1, r_getR2, r_getR4, r_getR6, r_getR9, r_getR10, r_getR13, r_getR14, r_getR15, r_getR17, r_getR18, r_getJ, r_putJ W, r_getI3, r_getI5, r_getI7, r_getI8, r_getI11, r_getI16, r_getI19, r_getI20, r_getI21, r_getI22, r_getI23, r_getI24, r_getI25, r_getI26, r_getI27, r_getI28, r_putI3 W, r_putI5 W, r_putI7 W, r_putI8 W, r_putI11 W, r_putI16 W, r_putI19 W, r_putI20 W, r_putI21 W, r_putI22 W, r_putI23 W, r_putI24 W, r_putI25 W, r_putI26 W, r_putI27 W, r_putI28 W, Sum.map_inl, Sum.map_inr, id_eq, eJ19 W, eJ20 W, l_X4_looksAtMoments_B31 W]
theorem l_X4_looksAtMoments_B21 {m : Nat} {ad : Nat → Nat} {h : HH} (W : WFM m ad h) (a1 : Int32) (a2 : Int32) (x3_3 : Int32)  (n : Nat) (x4_5 : Int32) (h_5 : MS) : lp (fun z => F_X4_looksAtMoments_B21 m a1 a2 x3_3 z.1 z.2) n (x4_5, pu m ad h_5 h) = Option.map (fun S => pu m ad S h) (lp (fun z => P_X4_looksAtMoments_B21 a1 a2 x3_3 z.1 z.2) n (x4_5, h_5)) := by
  have := lp_map9 (B := fun z => F_X4_looksAtMoments_B21 m a1 a2 x3_3 z.1 z.2) (B' := fun z => P_X4_looksAtMoments_B21 a1 a2 x3_3 z.1 z.2) (fun q => (q.1, pu m ad q.2 h)) (fun S => pu m ad S h) (fun z => e_X4_looksAtMoments_B21 W a1 a2 x3_3 z.1 z.2 ) n (x4_5, h_5)
  exact this
def P_X4_looksAtMoments_B12 (a1 : Int32) (a2 : Int32) (x3_3 : Int32) (h_3 : MS) : Option ((Int32 × MS) ⊕ MS) :=
  if (30 : Int32) < x3_3 then (
    some (.inr h_3)
  ) else (
    Option.bind (lp (fun z => P_X4_looksAtMoments_B21 a1 a2 x3_3 z.1 z.2) 100000 ((0 : Int32), h_3)) fun h27 =>
    some (.inl ((x3_3 + (1 : Int32)), h27))
  )
set_option maxHeartbeats 1000000 in
theorem e_X4_looksAtMoments_B12 {m : Nat} {ad : Nat → Nat} {h : HH} (W : WFM m ad h) (a1 : Int32) (a2 : Int32) (x3_3 : Int32) (h_3 : MS)  : F_X4_looksAtMoments_B12 m a1 a2 x3_3 (pu m ad h_3 h) = Option.map (Sum.map (fun q => (q.1, pu m ad q.2 h)) (fun S => pu m ad S h)) (P_X4_looksAtMoments_B12 a1 a2 x3_3 h_3) := by
  unfold F_X4_looksAtMoments_B12 P_X4_looksAtMoments_B12
  simp only [bind_pu, b2_pu, bind_map9, map_bind9, map_pb29, map_ite9, map_some9, map_none9, bind_some9, r_isO, r_aldI W, r_astI W, mv0, mv1, mv2, mv4, mv6, mv9, mv10, mv13, mv14, mv15, mv17, mv18, r_getR0, r_getR1, r_getR2, r_getR4, r_getR6, r_getR9, r_getR10, r_getR13, r_getR14, r_getR15, r_getR17, r_getR18, r_getJ, r_putJ W, r_getI3, r_getI5, r_getI7, r_getI8, r_getI11, r_getI16, r_getI19, r_getI20, r_getI21, r_getI22, r_getI23, r_getI24, r_getI25, r_getI26, r_getI27, r_getI28, r_putI3 W, r_putI5 W, r_putI7 W, r_putI8 W, r_putI11 W, r_putI16 W, r_putI19 W, r_putI20 W, r_putI21 W, r_putI22 W, r_putI23 W, r_putI24 W, r_putI25 W, r_putI26 W, r_putI27 W, r_putI28 W, Sum.map_inl, Sum.map_inr, id_eq, eJ19 W, eJ20 W, l_X4_looksAtMoments_B21 W]
theorem l_X4_looksAtMoments_B12 {m : Nat} {ad : Nat → Nat} {h : HH} (W : WFM m ad h) (a1 : Int32) (a2 : Int32)  (n : Nat) (x3_3 : Int32) (h_3 : MS) : lp (fun z => F_X4_looksAtMoments_B12 m a1 a2 z.1 z.2) n (x3_3, pu m ad h_3 h) = Option.map (fun S => pu m ad S h) (lp (fun z => P_X4_looksAtMoments_B12 a1 a2 z.1 z.2) n (x3_3, h_3)) := by
  have := lp_map9 (B := fun z => F_X4_looksAtMoments_B12 m a1 a2 z.1 z.2) (B' := fun z => P_X4_looksAtMoments_B12 a1 a2 z.1 z.2) (fun q => (q.1, pu m ad q.2 h)) (fun S => pu m ad S h) (fun z => e_X4_looksAtMoments_B12 W a1 a2 z.1 z.2 ) n (x3_3, h_3)
  exact this
def P_X4_looksAtMoments (a1 : Int32) (a2 : Int32) (h0 : MS) : Option MS :=
  Option.bind (piI h0 11 (0 : Int32)) fun h1 =>
  Option.bind (piJ h1 (0 : Int64)) fun h2 =>
  Option.bind (lp (fun z => P_X4_looksAtMoments_B12 a1 a2 z.1 z.2) 100000 ((0 : Int32), h2)) fun h30 =>
  some h30
set_option maxHeartbeats 1000000 in
theorem e_X4_looksAtMoments {m : Nat} {ad : Nat → Nat} {h : HH} (W : WFM m ad h) (a1 : Int32) (a2 : Int32) (h0 : MS)  : F_X4_looksAtMoments m a1 a2 (pu m ad h0 h) = Option.map ((fun S => pu m ad S h)) (P_X4_looksAtMoments a1 a2 h0) := by
  unfold F_X4_looksAtMoments P_X4_looksAtMoments
  simp only [bind_pu, b2_pu, bind_map9, map_bind9, map_pb29, map_ite9, map_some9, map_none9, bind_some9, r_isO, r_aldI W, r_astI W, mv0, mv1, mv2, mv4, mv6, mv9, mv10, mv13, mv14, mv15, mv17, mv18, r_getR0, r_getR1, r_getR2, r_getR4, r_getR6, r_getR9, r_getR10, r_getR13, r_getR14, r_getR15, r_getR17, r_getR18, r_getJ, r_putJ W, r_getI3, r_getI5, r_getI7, r_getI8, r_getI11, r_getI16, r_getI19, r_getI20, r_getI21, r_getI22, r_getI23, r_getI24, r_getI25, r_getI26, r_getI27, r_getI28, r_putI3 W, r_putI5 W, r_putI7 W, r_putI8 W, r_putI11 W, r_putI16 W, r_putI19 W, r_putI20 W, r_putI21 W, r_putI22 W, r_putI23 W, r_putI24 W, r_putI25 W, r_putI26 W, r_putI27 W, r_putI28 W, Sum.map_inl, Sum.map_inr, id_eq, eJ19 W, eJ20 W, l_X4_looksAtMoments_B12 W]
def P_X4_count (h0 : MS) : Option (Int32 × MS) :=

  Option.bind (P_X4_looksAtMoments (0 : Int32) (-1 : Int32) h0) fun h2 =>
  Option.bind (pgI h2 11) fun v3 =>
  some (v3, h2)
set_option maxHeartbeats 1000000 in
theorem e_X4_count {m : Nat} {ad : Nat → Nat} {h : HH} (W : WFM m ad h) (h0 : MS)  : F_X4_count m (pu m ad h0 h) = Option.map ((fun q => (q.1, pu m ad q.2 h))) (P_X4_count h0) := by
  unfold F_X4_count P_X4_count
  simp only [bind_pu, b2_pu, bind_map9, map_bind9, map_pb29, map_ite9, map_some9, map_none9, bind_some9, r_isO, r_aldI W, r_astI W, mv0, mv1, mv2, mv4, mv6, mv9, mv10, mv13, mv14, mv15, mv17, mv18, r_getR0, r_getR1, r_getR2, r_getR4, r_getR6, r_getR9, r_getR10, r_getR13, r_getR14, r_getR15, r_getR17, r_getR18, r_getJ, r_putJ W, r_getI3, r_getI5, r_getI7, r_getI8, r_getI11, r_getI16, r_getI19, r_getI20, r_getI21, r_getI22, r_getI23, r_getI24, r_getI25, r_getI26, r_getI27, r_getI28, r_putI3 W, r_putI5 W, r_putI7 W, r_putI8 W, r_putI11 W, r_putI16 W, r_putI19 W, r_putI20 W, r_putI21 W, r_putI22 W, r_putI23 W, r_putI24 W, r_putI25 W, r_putI26 W, r_putI27 W, r_putI28 W, Sum.map_inl, Sum.map_inr, id_eq, eJ19 W, eJ20 W, e_X4_looksAtMoments W]
def P_X4_toldCount (h0 : MS) : Option (Int32 × MS) :=
  Option.bind (piI h0 8 (0 : Int32)) fun h1 =>
  pb2 (P_X4_count h1) fun v4 h3 =>
  some (v4, h3)
set_option maxHeartbeats 1000000 in
theorem e_X4_toldCount {m : Nat} {ad : Nat → Nat} {h : HH} (W : WFM m ad h) (h0 : MS)  : F_X4_toldCount m (pu m ad h0 h) = Option.map ((fun q => (q.1, pu m ad q.2 h))) (P_X4_toldCount h0) := by
  unfold F_X4_toldCount P_X4_toldCount
  simp only [bind_pu, b2_pu, bind_map9, map_bind9, map_pb29, map_ite9, map_some9, map_none9, bind_some9, r_isO, r_aldI W, r_astI W, mv0, mv1, mv2, mv4, mv6, mv9, mv10, mv13, mv14, mv15, mv17, mv18, r_getR0, r_getR1, r_getR2, r_getR4, r_getR6, r_getR9, r_getR10, r_getR13, r_getR14, r_getR15, r_getR17, r_getR18, r_getJ, r_putJ W, r_getI3, r_getI5, r_getI7, r_getI8, r_getI11, r_getI16, r_getI19, r_getI20, r_getI21, r_getI22, r_getI23, r_getI24, r_getI25, r_getI26, r_getI27, r_getI28, r_putI3 W, r_putI5 W, r_putI7 W, r_putI8 W, r_putI11 W, r_putI16 W, r_putI19 W, r_putI20 W, r_putI21 W, r_putI22 W, r_putI23 W, r_putI24 W, r_putI25 W, r_putI26 W, r_putI27 W, r_putI28 W, Sum.map_inl, Sum.map_inr, id_eq, eJ19 W, eJ20 W, e_X4_count W]
def P_X4_moments (h0 : MS) : Option (Int32 × MS) :=

  pb2 (P_X4_toldCount h0) fun v3 h2 =>
  some (v3, h2)
set_option maxHeartbeats 1000000 in
theorem e_X4_moments {m : Nat} {ad : Nat → Nat} {h : HH} (W : WFM m ad h) (h0 : MS)  : F_X4_moments m (pu m ad h0 h) = Option.map ((fun q => (q.1, pu m ad q.2 h))) (P_X4_moments h0) := by
  unfold F_X4_moments P_X4_moments
  simp only [bind_pu, b2_pu, bind_map9, map_bind9, map_pb29, map_ite9, map_some9, map_none9, bind_some9, r_isO, r_aldI W, r_astI W, mv0, mv1, mv2, mv4, mv6, mv9, mv10, mv13, mv14, mv15, mv17, mv18, r_getR0, r_getR1, r_getR2, r_getR4, r_getR6, r_getR9, r_getR10, r_getR13, r_getR14, r_getR15, r_getR17, r_getR18, r_getJ, r_putJ W, r_getI3, r_getI5, r_getI7, r_getI8, r_getI11, r_getI16, r_getI19, r_getI20, r_getI21, r_getI22, r_getI23, r_getI24, r_getI25, r_getI26, r_getI27, r_getI28, r_putI3 W, r_putI5 W, r_putI7 W, r_putI8 W, r_putI11 W, r_putI16 W, r_putI19 W, r_putI20 W, r_putI21 W, r_putI22 W, r_putI23 W, r_putI24 W, r_putI25 W, r_putI26 W, r_putI27 W, r_putI28 W, Sum.map_inl, Sum.map_inr, id_eq, eJ19 W, eJ20 W, e_X4_toldCount W]
def P_X4_momentsTightened (h0 : MS) : Option (Int32 × MS) :=

  pb2 (P_X4_toldCount h0) fun v3 h2 =>
  some (v3, h2)
set_option maxHeartbeats 1000000 in
theorem e_X4_momentsTightened {m : Nat} {ad : Nat → Nat} {h : HH} (W : WFM m ad h) (h0 : MS)  : F_X4_momentsTightened m (pu m ad h0 h) = Option.map ((fun q => (q.1, pu m ad q.2 h))) (P_X4_momentsTightened h0) := by
  unfold F_X4_momentsTightened P_X4_momentsTightened
  simp only [bind_pu, b2_pu, bind_map9, map_bind9, map_pb29, map_ite9, map_some9, map_none9, bind_some9, r_isO, r_aldI W, r_astI W, mv0, mv1, mv2, mv4, mv6, mv9, mv10, mv13, mv14, mv15, mv17, mv18, r_getR0, r_getR1, r_getR2, r_getR4, r_getR6, r_getR9, r_getR10, r_getR13, r_getR14, r_getR15, r_getR17, r_getR18, r_getJ, r_putJ W, r_getI3, r_getI5, r_getI7, r_getI8, r_getI11, r_getI16, r_getI19, r_getI20, r_getI21, r_getI22, r_getI23, r_getI24, r_getI25, r_getI26, r_getI27, r_getI28, r_putI3 W, r_putI5 W, r_putI7 W, r_putI8 W, r_putI11 W, r_putI16 W, r_putI19 W, r_putI20 W, r_putI21 W, r_putI22 W, r_putI23 W, r_putI24 W, r_putI25 W, r_putI26 W, r_putI27 W, r_putI28 W, Sum.map_inl, Sum.map_inr, id_eq, eJ19 W, eJ20 W, e_X4_toldCount W]
def P_X4_leastOf (a1 : Int32) (h0 : MS) : Option (Int32 × MS) :=

  pb2 (P_X4_asks (F_X4_isClock a1) h0) fun v3 h2 =>
  if v3 = 0 then (
    some ((0 : Int32), h2)
  ) else (
    pb2 (P_X4_looks h2) fun v7 h6 =>
    if v7 = 0 then (
      pb2 (P_X4_fails (2 : Int32) h6) fun v11 h10 =>
      some (v11, h10)
    ) else (
      Option.bind (P_X4_least a1 h6) fun v13 =>
      some (v13, h6)
    )
  )
set_option maxHeartbeats 1000000 in
theorem e_X4_leastOf {m : Nat} {ad : Nat → Nat} {h : HH} (W : WFM m ad h) (a1 : Int32) (h0 : MS)  : F_X4_leastOf m a1 (pu m ad h0 h) = Option.map ((fun q => (q.1, pu m ad q.2 h))) (P_X4_leastOf a1 h0) := by
  unfold F_X4_leastOf P_X4_leastOf
  simp only [bind_pu, b2_pu, bind_map9, map_bind9, map_pb29, map_ite9, map_some9, map_none9, bind_some9, r_isO, r_aldI W, r_astI W, mv0, mv1, mv2, mv4, mv6, mv9, mv10, mv13, mv14, mv15, mv17, mv18, r_getR0, r_getR1, r_getR2, r_getR4, r_getR6, r_getR9, r_getR10, r_getR13, r_getR14, r_getR15, r_getR17, r_getR18, r_getJ, r_putJ W, r_getI3, r_getI5, r_getI7, r_getI8, r_getI11, r_getI16, r_getI19, r_getI20, r_getI21, r_getI22, r_getI23, r_getI24, r_getI25, r_getI26, r_getI27, r_getI28, r_putI3 W, r_putI5 W, r_putI7 W, r_putI8 W, r_putI11 W, r_putI16 W, r_putI19 W, r_putI20 W, r_putI21 W, r_putI22 W, r_putI23 W, r_putI24 W, r_putI25 W, r_putI26 W, r_putI27 W, r_putI28 W, Sum.map_inl, Sum.map_inr, id_eq, eJ19 W, eJ20 W, e_X4_asks W, e_X4_fails W, e_X4_least W, e_X4_looks W]
def P_X4_mostOf (a1 : Int32) (h0 : MS) : Option (Int32 × MS) :=

  pb2 (P_X4_asks (F_X4_isClock a1) h0) fun v3 h2 =>
  if v3 = 0 then (
    some ((0 : Int32), h2)
  ) else (
    pb2 (P_X4_looks h2) fun v7 h6 =>
    if v7 = 0 then (
      pb2 (P_X4_fails (2 : Int32) h6) fun v11 h10 =>
      some (v11, h10)
    ) else (
      Option.bind (P_X4_most a1 h6) fun v13 =>
      if v13 = (100000 : Int32) then (
        pb2 (P_X4_fails (2 : Int32) h6) fun v17 h16 =>
        some (v17, h16)
      ) else (
        Option.bind (P_X4_most a1 h6) fun v19 =>
        some (v19, h6)
      )
    )
  )
set_option maxHeartbeats 1000000 in
theorem e_X4_mostOf {m : Nat} {ad : Nat → Nat} {h : HH} (W : WFM m ad h) (a1 : Int32) (h0 : MS)  : F_X4_mostOf m a1 (pu m ad h0 h) = Option.map ((fun q => (q.1, pu m ad q.2 h))) (P_X4_mostOf a1 h0) := by
  unfold F_X4_mostOf P_X4_mostOf
  simp only [bind_pu, b2_pu, bind_map9, map_bind9, map_pb29, map_ite9, map_some9, map_none9, bind_some9, r_isO, r_aldI W, r_astI W, mv0, mv1, mv2, mv4, mv6, mv9, mv10, mv13, mv14, mv15, mv17, mv18, r_getR0, r_getR1, r_getR2, r_getR4, r_getR6, r_getR9, r_getR10, r_getR13, r_getR14, r_getR15, r_getR17, r_getR18, r_getJ, r_putJ W, r_getI3, r_getI5, r_getI7, r_getI8, r_getI11, r_getI16, r_getI19, r_getI20, r_getI21, r_getI22, r_getI23, r_getI24, r_getI25, r_getI26, r_getI27, r_getI28, r_putI3 W, r_putI5 W, r_putI7 W, r_putI8 W, r_putI11 W, r_putI16 W, r_putI19 W, r_putI20 W, r_putI21 W, r_putI22 W, r_putI23 W, r_putI24 W, r_putI25 W, r_putI26 W, r_putI27 W, r_putI28 W, Sum.map_inl, Sum.map_inr, id_eq, eJ19 W, eJ20 W, e_X4_asks W, e_X4_fails W, e_X4_looks W, e_X4_most W]
def P_X4_longestDelay_B22 (a1 : Int32) (a2 : Int32) (a3 : Int32) (x4_5 : Int32) (x5_5 : Int32) (h2 : MS) : Option ((Int32 × Int32) ⊕ Int32) :=
  if (3 : Int32) ≤ x5_5 then (
    some (.inr x4_5)
  ) else (
    Option.bind (rd h2 0 (((0 : Int32) + ((4 : Int32) * x5_5)) + (3 : Int32))) fun v10 =>
    some (.inl ((if v10 = (100000 : Int32) then x4_5 else (F_X4_less x4_5 (v10 - (if x5_5 = 0 then a1 else (if x5_5 = (1 : Int32) then a2 else a3))))), (x5_5 + (1 : Int32))))
  )
set_option maxHeartbeats 1000000 in
theorem e_X4_longestDelay_B22 {m : Nat} {ad : Nat → Nat} {h : HH} (W : WFM m ad h) (a1 : Int32) (a2 : Int32) (a3 : Int32) (x4_5 : Int32) (x5_5 : Int32) (h2 : MS)  : F_X4_longestDelay_B22 m a1 a2 a3 x4_5 x5_5 (pu m ad h2 h) = P_X4_longestDelay_B22 a1 a2 a3 x4_5 x5_5 h2 := by
  unfold F_X4_longestDelay_B22 P_X4_longestDelay_B22
  simp only [bind_pu, b2_pu, bind_map9, map_bind9, map_pb29, map_ite9, map_some9, map_none9, bind_some9, r_isO, r_aldI W, r_astI W, mv0, mv1, mv2, mv4, mv6, mv9, mv10, mv13, mv14, mv15, mv17, mv18, r_getR0, r_getR1, r_getR2, r_getR4, r_getR6, r_getR9, r_getR10, r_getR13, r_getR14, r_getR15, r_getR17, r_getR18, r_getJ, r_putJ W, r_getI3, r_getI5, r_getI7, r_getI8, r_getI11, r_getI16, r_getI19, r_getI20, r_getI21, r_getI22, r_getI23, r_getI24, r_getI25, r_getI26, r_getI27, r_getI28, r_putI3 W, r_putI5 W, r_putI7 W, r_putI8 W, r_putI11 W, r_putI16 W, r_putI19 W, r_putI20 W, r_putI21 W, r_putI22 W, r_putI23 W, r_putI24 W, r_putI25 W, r_putI26 W, r_putI27 W, r_putI28 W, Sum.map_inl, Sum.map_inr, id_eq, eJ19 W, eJ20 W]
def P_X4_longestDelay_T134 (a1 : Int32) (a2 : Int32) (a3 : Int32) (t4_134 : Int32) (y0_134 : Int32) (h_134 : MS) : Option (Int32 × MS) :=
  if y0_134 = 0 then (
    pb2 (P_X4_fails (2 : Int32) h_134) fun v16 h15 =>
    some (v16, h15)
  ) else (
    some (t4_134, h_134)
  )
set_option maxHeartbeats 1000000 in
theorem e_X4_longestDelay_T134 {m : Nat} {ad : Nat → Nat} {h : HH} (W : WFM m ad h) (a1 : Int32) (a2 : Int32) (a3 : Int32) (t4_134 : Int32) (y0_134 : Int32) (h_134 : MS)  : F_X4_longestDelay_T134 m a1 a2 a3 t4_134 y0_134 (pu m ad h_134 h) = Option.map ((fun q => (q.1, pu m ad q.2 h))) (P_X4_longestDelay_T134 a1 a2 a3 t4_134 y0_134 h_134) := by
  unfold F_X4_longestDelay_T134 P_X4_longestDelay_T134
  simp only [bind_pu, b2_pu, bind_map9, map_bind9, map_pb29, map_ite9, map_some9, map_none9, bind_some9, r_isO, r_aldI W, r_astI W, mv0, mv1, mv2, mv4, mv6, mv9, mv10, mv13, mv14, mv15, mv17, mv18, r_getR0, r_getR1, r_getR2, r_getR4, r_getR6, r_getR9, r_getR10, r_getR13, r_getR14, r_getR15, r_getR17, r_getR18, r_getJ, r_putJ W, r_getI3, r_getI5, r_getI7, r_getI8, r_getI11, r_getI16, r_getI19, r_getI20, r_getI21, r_getI22, r_getI23, r_getI24, r_getI25, r_getI26, r_getI27, r_getI28, r_putI3 W, r_putI5 W, r_putI7 W, r_putI8 W, r_putI11 W, r_putI16 W, r_putI19 W, r_putI20 W, r_putI21 W, r_putI22 W, r_putI23 W, r_putI24 W, r_putI25 W, r_putI26 W, r_putI27 W, r_putI28 W, Sum.map_inl, Sum.map_inr, id_eq, eJ19 W, eJ20 W, e_X4_fails W]
def P_X4_longestDelay (a1 : Int32) (a2 : Int32) (a3 : Int32) (h0 : MS) : Option (Int32 × MS) :=

  pb2 (P_X4_asks (F_X4_isMoment a1 a2 a3) h0) fun v3 h2 =>
  if v3 = 0 then (
    some ((0 : Int32), h2)
  ) else (
    Option.bind (lp (fun z => P_X4_longestDelay_B22 a1 a2 a3 z.1 z.2 h2) 100000 ((100000 : Int32), (0 : Int32))) fun v12 =>
    if (F_X4_in v12 (0 : Int32) (99999 : Int32)) = 0 then (
      P_X4_longestDelay_T134 a1 a2 a3 v12 (0 : Int32) h2
    ) else (
      Option.bind (P_X4_allows 0 (0 : Int32) (a1 + v12) (a2 + v12) (a3 + v12) h2) fun v19 =>
      if v19 = 0 then (
        P_X4_longestDelay_T134 a1 a2 a3 v12 (0 : Int32) h2
      ) else (
        P_X4_longestDelay_T134 a1 a2 a3 v12 (1 : Int32) h2
      )
    )
  )
set_option maxHeartbeats 1000000 in
theorem e_X4_longestDelay {m : Nat} {ad : Nat → Nat} {h : HH} (W : WFM m ad h) (a1 : Int32) (a2 : Int32) (a3 : Int32) (h0 : MS)  : F_X4_longestDelay m a1 a2 a3 (pu m ad h0 h) = Option.map ((fun q => (q.1, pu m ad q.2 h))) (P_X4_longestDelay a1 a2 a3 h0) := by
  unfold F_X4_longestDelay P_X4_longestDelay
  simp only [bind_pu, b2_pu, bind_map9, map_bind9, map_pb29, map_ite9, map_some9, map_none9, bind_some9, r_isO, r_aldI W, r_astI W, mv0, mv1, mv2, mv4, mv6, mv9, mv10, mv13, mv14, mv15, mv17, mv18, r_getR0, r_getR1, r_getR2, r_getR4, r_getR6, r_getR9, r_getR10, r_getR13, r_getR14, r_getR15, r_getR17, r_getR18, r_getJ, r_putJ W, r_getI3, r_getI5, r_getI7, r_getI8, r_getI11, r_getI16, r_getI19, r_getI20, r_getI21, r_getI22, r_getI23, r_getI24, r_getI25, r_getI26, r_getI27, r_getI28, r_putI3 W, r_putI5 W, r_putI7 W, r_putI8 W, r_putI11 W, r_putI16 W, r_putI19 W, r_putI20 W, r_putI21 W, r_putI22 W, r_putI23 W, r_putI24 W, r_putI25 W, r_putI26 W, r_putI27 W, r_putI28 W, Sum.map_inl, Sum.map_inr, id_eq, eJ19 W, eJ20 W, e_X4_allows W, e_X4_asks W, e_X4_longestDelay_B22 W, e_X4_longestDelay_T134 W]
def P_X4_isNeedless (a1 : Int32) (h0 : MS) : Option (Int32 × MS) :=
  if (a1 / (4 : Int32)) = (a1 - a1 / (4 : Int32) * (4 : Int32)) then (
    some ((0 : Int32), h0)
  ) else (
    Option.bind (rd h0 0 ((0 : Int32) + a1)) fun v4 =>
    if v4 = (if (a1 / (4 : Int32)) = (3 : Int32) then (0 : Int32) else (100000 : Int32)) then (
      some ((0 : Int32), h0)
    ) else (
      Option.bind (P_X4_carries 0 (0 : Int32) 10 (0 : Int32) h0) fun h8 =>
      Option.bind (wr h8 10 a1 (if (a1 / (4 : Int32)) = (3 : Int32) then (0 : Int32) else (100000 : Int32))) fun h10 =>
      pb2 (P_X4_tightens 10 (0 : Int32) h10) fun v13 h12 =>
      Option.bind (rd h12 10 a1) fun v15 =>
      Option.bind (rd h12 0 ((0 : Int32) + a1)) fun v17 =>
      some ((if v17 < v15 then (0 : Int32) else (1 : Int32)), h12)
    )
  )
set_option maxHeartbeats 1000000 in
theorem e_X4_isNeedless {m : Nat} {ad : Nat → Nat} {h : HH} (W : WFM m ad h) (a1 : Int32) (h0 : MS)  : F_X4_isNeedless m a1 (pu m ad h0 h) = Option.map ((fun q => (q.1, pu m ad q.2 h))) (P_X4_isNeedless a1 h0) := by
  unfold F_X4_isNeedless P_X4_isNeedless
  simp only [bind_pu, b2_pu, bind_map9, map_bind9, map_pb29, map_ite9, map_some9, map_none9, bind_some9, r_isO, r_aldI W, r_astI W, mv0, mv1, mv2, mv4, mv6, mv9, mv10, mv13, mv14, mv15, mv17, mv18, r_getR0, r_getR1, r_getR2, r_getR4, r_getR6, r_getR9, r_getR10, r_getR13, r_getR14, r_getR15, r_getR17, r_getR18, r_getJ, r_putJ W, r_getI3, r_getI5, r_getI7, r_getI8, r_getI11, r_getI16, r_getI19, r_getI20, r_getI21, r_getI22, r_getI23, r_getI24, r_getI25, r_getI26, r_getI27, r_getI28, r_putI3 W, r_putI5 W, r_putI7 W, r_putI8 W, r_putI11 W, r_putI16 W, r_putI19 W, r_putI20 W, r_putI21 W, r_putI22 W, r_putI23 W, r_putI24 W, r_putI25 W, r_putI26 W, r_putI27 W, r_putI28 W, Sum.map_inl, Sum.map_inr, id_eq, eJ19 W, eJ20 W, e_X4_carries W, e_X4_tightens W]
def P_X4_needless_B17 (x1_8 : Int32) (x2_8 : Int32) (h_8 : MS) : Option ((Int32 × Int32 × MS) ⊕ (Int32 × MS)) :=
  if (16 : Int32) ≤ x2_8 then (
    some (.inr (x1_8, h_8))
  ) else (
    pb2 (P_X4_isNeedless x2_8 h_8) fun v12 h11 =>
    some (.inl ((x1_8 + (if v12 = 0 then (0 : Int32) else (1 : Int32))), (x2_8 + (1 : Int32)), h11))
  )
set_option maxHeartbeats 1000000 in
theorem e_X4_needless_B17 {m : Nat} {ad : Nat → Nat} {h : HH} (W : WFM m ad h) (x1_8 : Int32) (x2_8 : Int32) (h_8 : MS)  : F_X4_needless_B17 m x1_8 x2_8 (pu m ad h_8 h) = Option.map (Sum.map (fun q => (q.1, q.2.1, pu m ad q.2.2 h)) (fun q => (q.1, pu m ad q.2 h))) (P_X4_needless_B17 x1_8 x2_8 h_8) := by
  unfold F_X4_needless_B17 P_X4_needless_B17
  simp only [bind_pu, b2_pu, bind_map9, map_bind9, map_pb29, map_ite9, map_some9, map_none9, bind_some9, r_isO, r_aldI W, r_astI W, mv0, mv1, mv2, mv4, mv6, mv9, mv10, mv13, mv14, mv15, mv17, mv18, r_getR0, r_getR1, r_getR2, r_getR4, r_getR6, r_getR9, r_getR10, r_getR13, r_getR14, r_getR15, r_getR17, r_getR18, r_getJ, r_putJ W, r_getI3, r_getI5, r_getI7, r_getI8, r_getI11, r_getI16, r_getI19, r_getI20, r_getI21, r_getI22, r_getI23, r_getI24, r_getI25, r_getI26, r_getI27, r_getI28, r_putI3 W, r_putI5 W, r_putI7 W, r_putI8 W, r_putI11 W, r_putI16 W, r_putI19 W, r_putI20 W, r_putI21 W, r_putI22 W, r_putI23 W, r_putI24 W, r_putI25 W, r_putI26 W, r_putI27 W, r_putI28 W, Sum.map_inl, Sum.map_inr, id_eq, eJ19 W, eJ20 W, e_X4_isNeedless W]
theorem l_X4_needless_B17 {m : Nat} {ad : Nat → Nat} {h : HH} (W : WFM m ad h)   (n : Nat) (x1_8 : Int32) (x2_8 : Int32) (h_8 : MS) : lp (fun z => F_X4_needless_B17 m z.1 z.2.1 z.2.2) n (x1_8, x2_8, pu m ad h_8 h) = Option.map (fun q => (q.1, pu m ad q.2 h)) (lp (fun z => P_X4_needless_B17  z.1 z.2.1 z.2.2) n (x1_8, x2_8, h_8)) := by
  have := lp_map9 (B := fun z => F_X4_needless_B17 m z.1 z.2.1 z.2.2) (B' := fun z => P_X4_needless_B17  z.1 z.2.1 z.2.2) (fun q => (q.1, q.2.1, pu m ad q.2.2 h)) (fun q => (q.1, pu m ad q.2 h)) (fun z => e_X4_needless_B17 W  z.1 z.2.1 z.2.2 ) n (x1_8, x2_8, h_8)
  exact this
def P_X4_needless (h0 : MS) : Option (Int32 × MS) :=

  pb2 (P_X4_looks h0) fun v3 h2 =>
  pb2 (P_X4_asks v3 h2) fun v6 h5 =>
  if v6 = 0 then (
    some ((0 : Int32), h5)
  ) else (
    Option.bind (lp (fun z => P_X4_needless_B17 z.1 z.2.1 z.2.2) 100000 ((0 : Int32), (0 : Int32), h5)) fun q0_9 =>
    some (q0_9.1, q0_9.2)
  )
set_option maxHeartbeats 1000000 in
theorem e_X4_needless {m : Nat} {ad : Nat → Nat} {h : HH} (W : WFM m ad h) (h0 : MS)  : F_X4_needless m (pu m ad h0 h) = Option.map ((fun q => (q.1, pu m ad q.2 h))) (P_X4_needless h0) := by
  unfold F_X4_needless P_X4_needless
  simp only [bind_pu, b2_pu, bind_map9, map_bind9, map_pb29, map_ite9, map_some9, map_none9, bind_some9, r_isO, r_aldI W, r_astI W, mv0, mv1, mv2, mv4, mv6, mv9, mv10, mv13, mv14, mv15, mv17, mv18, r_getR0, r_getR1, r_getR2, r_getR4, r_getR6, r_getR9, r_getR10, r_getR13, r_getR14, r_getR15, r_getR17, r_getR18, r_getJ, r_putJ W, r_getI3, r_getI5, r_getI7, r_getI8, r_getI11, r_getI16, r_getI19, r_getI20, r_getI21, r_getI22, r_getI23, r_getI24, r_getI25, r_getI26, r_getI27, r_getI28, r_putI3 W, r_putI5 W, r_putI7 W, r_putI8 W, r_putI11 W, r_putI16 W, r_putI19 W, r_putI20 W, r_putI21 W, r_putI22 W, r_putI23 W, r_putI24 W, r_putI25 W, r_putI26 W, r_putI27 W, r_putI28 W, Sum.map_inl, Sum.map_inr, id_eq, eJ19 W, eJ20 W, e_X4_asks W, e_X4_looks W, l_X4_needless_B17 W]
def P_X4_isShelfEmpty (a1 : Int32) (h0 : MS) : Option (Int32 × MS) :=

  pb2 (P_X4_asks (F_X4_isSlot a1) h0) fun v3 h2 =>
  if v3 = 0 then (
    some ((0 : Int32), h2)
  ) else (
    Option.bind (P_X4_hasZone a1 h2) fun v6 =>
    some ((if v6 = 0 then (1 : Int32) else (0 : Int32)), h2)
  )
set_option maxHeartbeats 1000000 in
theorem e_X4_isShelfEmpty {m : Nat} {ad : Nat → Nat} {h : HH} (W : WFM m ad h) (a1 : Int32) (h0 : MS)  : F_X4_isShelfEmpty m a1 (pu m ad h0 h) = Option.map ((fun q => (q.1, pu m ad q.2 h))) (P_X4_isShelfEmpty a1 h0) := by
  unfold F_X4_isShelfEmpty P_X4_isShelfEmpty
  simp only [bind_pu, b2_pu, bind_map9, map_bind9, map_pb29, map_ite9, map_some9, map_none9, bind_some9, r_isO, r_aldI W, r_astI W, mv0, mv1, mv2, mv4, mv6, mv9, mv10, mv13, mv14, mv15, mv17, mv18, r_getR0, r_getR1, r_getR2, r_getR4, r_getR6, r_getR9, r_getR10, r_getR13, r_getR14, r_getR15, r_getR17, r_getR18, r_getJ, r_putJ W, r_getI3, r_getI5, r_getI7, r_getI8, r_getI11, r_getI16, r_getI19, r_getI20, r_getI21, r_getI22, r_getI23, r_getI24, r_getI25, r_getI26, r_getI27, r_getI28, r_putI3 W, r_putI5 W, r_putI7 W, r_putI8 W, r_putI11 W, r_putI16 W, r_putI19 W, r_putI20 W, r_putI21 W, r_putI22 W, r_putI23 W, r_putI24 W, r_putI25 W, r_putI26 W, r_putI27 W, r_putI28 W, Sum.map_inl, Sum.map_inr, id_eq, eJ19 W, eJ20 W, e_X4_asks W, e_X4_hasZone W]
def P_X4_asksShelf (a1 : Int32) (h0 : MS) : Option (Int32 × MS) :=

  pb2 (P_X4_asks (F_X4_isSlot a1) h0) fun v3 h2 =>
  if v3 = 0 then (
    some ((0 : Int32), h2)
  ) else (
    Option.bind (P_X4_hasZone a1 h2) fun v6 =>
    Option.bind (piI h2 8 (if v6 = 0 then (2 : Int32) else (0 : Int32))) fun h8 =>
    Option.bind (pgI h8 8) fun v9 =>
    some ((if v9 = 0 then (1 : Int32) else (0 : Int32)), h8)
  )
set_option maxHeartbeats 1000000 in
theorem e_X4_asksShelf {m : Nat} {ad : Nat → Nat} {h : HH} (W : WFM m ad h) (a1 : Int32) (h0 : MS)  : F_X4_asksShelf m a1 (pu m ad h0 h) = Option.map ((fun q => (q.1, pu m ad q.2 h))) (P_X4_asksShelf a1 h0) := by
  unfold F_X4_asksShelf P_X4_asksShelf
  simp only [bind_pu, b2_pu, bind_map9, map_bind9, map_pb29, map_ite9, map_some9, map_none9, bind_some9, r_isO, r_aldI W, r_astI W, mv0, mv1, mv2, mv4, mv6, mv9, mv10, mv13, mv14, mv15, mv17, mv18, r_getR0, r_getR1, r_getR2, r_getR4, r_getR6, r_getR9, r_getR10, r_getR13, r_getR14, r_getR15, r_getR17, r_getR18, r_getJ, r_putJ W, r_getI3, r_getI5, r_getI7, r_getI8, r_getI11, r_getI16, r_getI19, r_getI20, r_getI21, r_getI22, r_getI23, r_getI24, r_getI25, r_getI26, r_getI27, r_getI28, r_putI3 W, r_putI5 W, r_putI7 W, r_putI8 W, r_putI11 W, r_putI16 W, r_putI19 W, r_putI20 W, r_putI21 W, r_putI22 W, r_putI23 W, r_putI24 W, r_putI25 W, r_putI26 W, r_putI27 W, r_putI28 W, Sum.map_inl, Sum.map_inr, id_eq, eJ19 W, eJ20 W, e_X4_asks W, e_X4_hasZone W]
def P_X4_isInside_B6 (a1 : Nat) (a2 : Int32) (a3 : Nat) (a4 : Int32) (x4_1 : Int32) (x5_1 : Int32) (h0 : MS) : Option ((Int32 × Int32) ⊕ Int32) :=
  if (16 : Int32) ≤ x5_1 then (
    some (.inr x4_1)
  ) else (
    if x4_1 = 0 then (
      some (.inl ((0 : Int32), (x5_1 + (1 : Int32))))
    ) else (
      Option.bind (rd h0 a1 (a2 + x5_1)) fun v4 =>
      Option.bind (rd h0 a3 (a4 + x5_1)) fun v5 =>
      some (.inl ((if v5 < v4 then (0 : Int32) else (1 : Int32)), (x5_1 + (1 : Int32))))
    )
  )
set_option maxHeartbeats 1000000 in
theorem e_X4_isInside_B6 {m : Nat} {ad : Nat → Nat} {h : HH} (W : WFM m ad h) (a1 : Nat) (a2 : Int32) (a3 : Nat) (a4 : Int32) (x4_1 : Int32) (x5_1 : Int32) (h0 : MS) (va1 : a1 ∈ mvl) (va3 : a3 ∈ mvl) : F_X4_isInside_B6 (some (ad a1)) a2 (some (ad a3)) a4 x4_1 x5_1 (pu m ad h0 h) = P_X4_isInside_B6 a1 a2 a3 a4 x4_1 x5_1 h0 := by
  unfold F_X4_isInside_B6 P_X4_isInside_B6
  simp only [bind_pu, b2_pu, bind_map9, map_bind9, map_pb29, map_ite9, map_some9, map_none9, bind_some9, r_isO, r_aldI W, r_astI W, mv0, mv1, mv2, mv4, mv6, mv9, mv10, mv13, mv14, mv15, mv17, mv18, r_getR0, r_getR1, r_getR2, r_getR4, r_getR6, r_getR9, r_getR10, r_getR13, r_getR14, r_getR15, r_getR17, r_getR18, r_getJ, r_putJ W, r_getI3, r_getI5, r_getI7, r_getI8, r_getI11, r_getI16, r_getI19, r_getI20, r_getI21, r_getI22, r_getI23, r_getI24, r_getI25, r_getI26, r_getI27, r_getI28, r_putI3 W, r_putI5 W, r_putI7 W, r_putI8 W, r_putI11 W, r_putI16 W, r_putI19 W, r_putI20 W, r_putI21 W, r_putI22 W, r_putI23 W, r_putI24 W, r_putI25 W, r_putI26 W, r_putI27 W, r_putI28 W, Sum.map_inl, Sum.map_inr, id_eq, eJ19 W, eJ20 W, va1, va3]
