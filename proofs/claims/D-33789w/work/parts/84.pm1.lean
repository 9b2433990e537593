def P_X4_isInside (a1 : Nat) (a2 : Int32) (a3 : Nat) (a4 : Int32) (h0 : MS) : Option Int32 :=
  Option.bind (lp (fun z => P_X4_isInside_B6 a1 a2 a3 a4 z.1 z.2 h0) 100000 ((1 : Int32), (0 : Int32))) fun v7 =>
  Option.bind (okZ v7) fun _ =>
  some v7
set_option maxHeartbeats 1000000 in
theorem e_X4_isInside {m : Nat} {ad : Nat → Nat} {h : HH} (W : WFM m ad h) (a1 : Nat) (a2 : Int32) (a3 : Nat) (a4 : Int32) (h0 : MS) (va1 : a1 ∈ mvl) (va3 : a3 ∈ mvl) : F_X4_isInside (some (ad a1)) a2 (some (ad a3)) a4 (pu m ad h0 h) = P_X4_isInside a1 a2 a3 a4 h0 := by
  unfold F_X4_isInside P_X4_isInside
  simp only [bind_pu, b2_pu, bind_map9, map_bind9, map_pb29, map_ite9, map_some9, map_none9, bind_some9, r_isO, r_aldI W, r_astI W, mv0, mv1, mv2, mv4, mv6, mv9, mv10, mv13, mv14, mv15, mv17, mv18, r_getR0, r_getR1, r_getR2, r_getR4, r_getR6, r_getR9, r_getR10, r_getR13, r_getR14, r_getR15, r_getR17, r_getR18, r_getJ, r_putJ W, r_getI3, r_getI5, r_getI7, r_getI8, r_getI11, r_getI16, r_getI19, r_getI20, r_getI21, r_getI22, r_getI23, r_getI24, r_getI25, r_getI26, r_getI27, r_getI28, r_putI3 W, r_putI5 W, r_putI7 W, r_putI8 W, r_putI11 W, r_putI16 W, r_putI19 W, r_putI20 W, r_putI21 W, r_putI22 W, r_putI23 W, r_putI24 W, r_putI25 W, r_putI26 W, r_putI27 W, r_putI28 W, Sum.map_inl, Sum.map_inr, id_eq, eJ19 W, eJ20 W, e_X4_isInside_B6 W, va1, va3]
def P_X4_isWithin (a1 : Int32) (h0 : MS) : Option (Int32 × MS) :=

  pb2 (P_X4_asksShelf a1 h0) fun v3 h2 =>
  if v3 = 0 then (
    some ((0 : Int32), h2)
  ) else (
    pb2 (P_X4_looks h2) fun v7 h6 =>
    if v7 = 0 then (
      some ((1 : Int32), h6)
    ) else (
      Option.bind (P_X4_isInside 9 (0 : Int32) 0 ((16 : Int32) + ((16 : Int32) * a1)) h6) fun v11 =>
      some ((if v11 = 0 then (0 : Int32) else (1 : Int32)), h6)
    )
  )
set_option maxHeartbeats 1000000 in
theorem e_X4_isWithin {m : Nat} {ad : Nat → Nat} {h : HH} (W : WFM m ad h) (a1 : Int32) (h0 : MS)  : F_X4_isWithin m a1 (pu m ad h0 h) = Option.map ((fun q => (q.1, pu m ad q.2 h))) (P_X4_isWithin a1 h0) := by
  unfold F_X4_isWithin P_X4_isWithin
  simp only [bind_pu, b2_pu, bind_map9, map_bind9, map_pb29, map_ite9, map_some9, map_none9, bind_some9, r_isO, r_aldI W, r_astI W, mv0, mv1, mv2, mv4, mv6, mv9, mv10, mv13, mv14, mv15, mv17, mv18, r_getR0, r_getR1, r_getR2, r_getR4, r_getR6, r_getR9, r_getR10, r_getR13, r_getR14, r_getR15, r_getR17, r_getR18, r_getJ, r_putJ W, r_getI3, r_getI5, r_getI7, r_getI8, r_getI11, r_getI16, r_getI19, r_getI20, r_getI21, r_getI22, r_getI23, r_getI24, r_getI25, r_getI26, r_getI27, r_getI28, r_putI3 W, r_putI5 W, r_putI7 W, r_putI8 W, r_putI11 W, r_putI16 W, r_putI19 W, r_putI20 W, r_putI21 W, r_putI22 W, r_putI23 W, r_putI24 W, r_putI25 W, r_putI26 W, r_putI27 W, r_putI28 W, Sum.map_inl, Sum.map_inr, id_eq, eJ19 W, eJ20 W, e_X4_asksShelf W, e_X4_isInside W, e_X4_looks W]
def P_X4_momentsBeyond (a1 : Int32) (h0 : MS) : Option (Int32 × MS) :=

  pb2 (P_X4_asksShelf a1 h0) fun v3 h2 =>
  if v3 = 0 then (
    some ((0 : Int32), h2)
  ) else (
    Option.bind (P_X4_looksAtMoments (0 : Int32) a1 h2) fun h6 =>
    Option.bind (pgI h6 11) fun v7 =>
    some (v7, h6)
  )
set_option maxHeartbeats 1000000 in
theorem e_X4_momentsBeyond {m : Nat} {ad : Nat → Nat} {h : HH} (W : WFM m ad h) (a1 : Int32) (h0 : MS)  : F_X4_momentsBeyond m a1 (pu m ad h0 h) = Option.map ((fun q => (q.1, pu m ad q.2 h))) (P_X4_momentsBeyond a1 h0) := by
  unfold F_X4_momentsBeyond P_X4_momentsBeyond
  simp only [bind_pu, b2_pu, bind_map9, map_bind9, map_pb29, map_ite9, map_some9, map_none9, bind_some9, r_isO, r_aldI W, r_astI W, mv0, mv1, mv2, mv4, mv6, mv9, mv10, mv13, mv14, mv15, mv17, mv18, r_getR0, r_getR1, r_getR2, r_getR4, r_getR6, r_getR9, r_getR10, r_getR13, r_getR14, r_getR15, r_getR17, r_getR18, r_getJ, r_putJ W, r_getI3, r_getI5, r_getI7, r_getI8, r_getI11, r_getI16, r_getI19, r_getI20, r_getI21, r_getI22, r_getI23, r_getI24, r_getI25, r_getI26, r_getI27, r_getI28, r_putI3 W, r_putI5 W, r_putI7 W, r_putI8 W, r_putI11 W, r_putI16 W, r_putI19 W, r_putI20 W, r_putI21 W, r_putI22 W, r_putI23 W, r_putI24 W, r_putI25 W, r_putI26 W, r_putI27 W, r_putI28 W, Sum.map_inl, Sum.map_inr, id_eq, eJ19 W, eJ20 W, e_X4_asksShelf W, e_X4_looksAtMoments W]
def P_X4_doMeet_B12 (a1 : Int32) (x2_5 : Int32) (h_5 : MS) : Option ((Int32 × MS) ⊕ MS) :=
  if (16 : Int32) ≤ x2_5 then (
    some (.inr h_5)
  ) else (
    Option.bind (rd h_5 0 ((0 : Int32) + x2_5)) fun v9 =>
    Option.bind (rd h_5 0 (((16 : Int32) + ((16 : Int32) * a1)) + x2_5)) fun v11 =>
    Option.bind (wr h_5 10 x2_5 (F_X4_less v9 v11)) fun h12 =>
    some (.inl ((x2_5 + (1 : Int32)), h12))
  )
set_option maxHeartbeats 1000000 in
theorem e_X4_doMeet_B12 {m : Nat} {ad : Nat → Nat} {h : HH} (W : WFM m ad h) (a1 : Int32) (x2_5 : Int32) (h_5 : MS)  : F_X4_doMeet_B12 m a1 x2_5 (pu m ad h_5 h) = Option.map (Sum.map (fun q => (q.1, pu m ad q.2 h)) (fun S => pu m ad S h)) (P_X4_doMeet_B12 a1 x2_5 h_5) := by
  unfold F_X4_doMeet_B12 P_X4_doMeet_B12
  simp only [bind_pu, b2_pu, bind_map9, map_bind9, map_pb29, map_ite9, map_some9, map_none9, bind_some9, r_isO, r_aldI W, r_astI W, mv0, mv1, mv2, mv4, mv6, mv9, mv10, mv13, mv14, mv15, mv17, mv18, r_getR0, r_getR1, r_getR2, r_getR4, r_getR6, r_getR9, r_getR10, r_getR13, r_getR14, r_getR15, r_getR17, r_getR18, r_getJ, r_putJ W, r_getI3, r_getI5, r_getI7, r_getI8, r_getI11, r_getI16, r_getI19, r_getI20, r_getI21, r_getI22, r_getI23, r_getI24, r_getI25, r_getI26, r_getI27, r_getI28, r_putI3 W, r_putI5 W, r_putI7 W, r_putI8 W, r_putI11 W, r_putI16 W, r_putI19 W, r_putI20 W, r_putI21 W, r_putI22 W, r_putI23 W, r_putI24 W, r_putI25 W, r_putI26 W, r_putI27 W, r_putI28 W, Sum.map_inl, Sum.map_inr, id_eq, eJ19 W, eJ20 W]
theorem l_X4_doMeet_B12 {m : Nat} {ad : Nat → Nat} {h : HH} (W : WFM m ad h) (a1 : Int32)  (n : Nat) (x2_5 : Int32) (h_5 : MS) : lp (fun z => F_X4_doMeet_B12 m a1 z.1 z.2) n (x2_5, pu m ad h_5 h) = Option.map (fun S => pu m ad S h) (lp (fun z => P_X4_doMeet_B12 a1 z.1 z.2) n (x2_5, h_5)) := by
  have := lp_map9 (B := fun z => F_X4_doMeet_B12 m a1 z.1 z.2) (B' := fun z => P_X4_doMeet_B12 a1 z.1 z.2) (fun q => (q.1, pu m ad q.2 h)) (fun S => pu m ad S h) (fun z => e_X4_doMeet_B12 W a1 z.1 z.2 ) n (x2_5, h_5)
  exact this
def P_X4_doMeet (a1 : Int32) (h0 : MS) : Option (Int32 × MS) :=

  pb2 (P_X4_asksShelf a1 h0) fun v3 h2 =>
  if v3 = 0 then (
    some ((0 : Int32), h2)
  ) else (
    Option.bind (lp (fun z => P_X4_doMeet_B12 a1 z.1 z.2) 100000 ((0 : Int32), h2)) fun h13 =>
    pb2 (P_X4_tightens 10 (0 : Int32) h13) fun v16 h15 =>
    Option.bind (okZ v16) fun _ =>
    some (v16, h15)
  )
set_option maxHeartbeats 1000000 in
theorem e_X4_doMeet {m : Nat} {ad : Nat → Nat} {h : HH} (W : WFM m ad h) (a1 : Int32) (h0 : MS)  : F_X4_doMeet m a1 (pu m ad h0 h) = Option.map ((fun q => (q.1, pu m ad q.2 h))) (P_X4_doMeet a1 h0) := by
  unfold F_X4_doMeet P_X4_doMeet
  simp only [bind_pu, b2_pu, bind_map9, map_bind9, map_pb29, map_ite9, map_some9, map_none9, bind_some9, r_isO, r_aldI W, r_astI W, mv0, mv1, mv2, mv4, mv6, mv9, mv10, mv13, mv14, mv15, mv17, mv18, r_getR0, r_getR1, r_getR2, r_getR4, r_getR6, r_getR9, r_getR10, r_getR13, r_getR14, r_getR15, r_getR17, r_getR18, r_getJ, r_putJ W, r_getI3, r_getI5, r_getI7, r_getI8, r_getI11, r_getI16, r_getI19, r_getI20, r_getI21, r_getI22, r_getI23, r_getI24, r_getI25, r_getI26, r_getI27, r_getI28, r_putI3 W, r_putI5 W, r_putI7 W, r_putI8 W, r_putI11 W, r_putI16 W, r_putI19 W, r_putI20 W, r_putI21 W, r_putI22 W, r_putI23 W, r_putI24 W, r_putI25 W, r_putI26 W, r_putI27 W, r_putI28 W, Sum.map_inl, Sum.map_inr, id_eq, eJ19 W, eJ20 W, e_X4_asksShelf W, l_X4_doMeet_B12 W, e_X4_tightens W]
def P_X4_stay (a1 : Int32) (a2 : Int32) (h0 : MS) : Option Int32 :=

  Option.bind (rd h0 0 (((84 : Int32) + ((3 : Int32) * a1)) + a2)) fun v2 =>
  some v2
set_option maxHeartbeats 1000000 in
theorem e_X4_stay {m : Nat} {ad : Nat → Nat} {h : HH} (W : WFM m ad h) (a1 : Int32) (a2 : Int32) (h0 : MS)  : F_X4_stay m a1 a2 (pu m ad h0 h) = P_X4_stay a1 a2 h0 := by
  unfold F_X4_stay P_X4_stay
  simp only [bind_pu, b2_pu, bind_map9, map_bind9, map_pb29, map_ite9, map_some9, map_none9, bind_some9, r_isO, r_aldI W, r_astI W, mv0, mv1, mv2, mv4, mv6, mv9, mv10, mv13, mv14, mv15, mv17, mv18, r_getR0, r_getR1, r_getR2, r_getR4, r_getR6, r_getR9, r_getR10, r_getR13, r_getR14, r_getR15, r_getR17, r_getR18, r_getJ, r_putJ W, r_getI3, r_getI5, r_getI7, r_getI8, r_getI11, r_getI16, r_getI19, r_getI20, r_getI21, r_getI22, r_getI23, r_getI24, r_getI25, r_getI26, r_getI27, r_getI28, r_putI3 W, r_putI5 W, r_putI7 W, r_putI8 W, r_putI11 W, r_putI16 W, r_putI19 W, r_putI20 W, r_putI21 W, r_putI22 W, r_putI23 W, r_putI24 W, r_putI25 W, r_putI26 W, r_putI27 W, r_putI28 W, Sum.map_inl, Sum.map_inr, id_eq, eJ19 W, eJ20 W]
def P_X4_stayOf (a1 : Int32) (a2 : Int32) (h0 : MS) : Option (Int32 × MS) :=

  pb2 (P_X4_asks (if (F_X4_isHarbour a1) = 0 then (0 : Int32) else (if (F_X4_isClock a2) = 0 then (0 : Int32) else (1 : Int32))) h0) fun v5 h4 =>
  if v5 = 0 then (
    some ((0 : Int32), h4)
  ) else (
    Option.bind (P_X4_stay a1 a2 h4) fun v8 =>
    some (v8, h4)
  )
set_option maxHeartbeats 1000000 in
theorem e_X4_stayOf {m : Nat} {ad : Nat → Nat} {h : HH} (W : WFM m ad h) (a1 : Int32) (a2 : Int32) (h0 : MS)  : F_X4_stayOf m a1 a2 (pu m ad h0 h) = Option.map ((fun q => (q.1, pu m ad q.2 h))) (P_X4_stayOf a1 a2 h0) := by
  unfold F_X4_stayOf P_X4_stayOf
  simp only [bind_pu, b2_pu, bind_map9, map_bind9, map_pb29, map_ite9, map_some9, map_none9, bind_some9, r_isO, r_aldI W, r_astI W, mv0, mv1, mv2, mv4, mv6, mv9, mv10, mv13, mv14, mv15, mv17, mv18, r_getR0, r_getR1, r_getR2, r_getR4, r_getR6, r_getR9, r_getR10, r_getR13, r_getR14, r_getR15, r_getR17, r_getR18, r_getJ, r_putJ W, r_getI3, r_getI5, r_getI7, r_getI8, r_getI11, r_getI16, r_getI19, r_getI20, r_getI21, r_getI22, r_getI23, r_getI24, r_getI25, r_getI26, r_getI27, r_getI28, r_putI3 W, r_putI5 W, r_putI7 W, r_putI8 W, r_putI11 W, r_putI16 W, r_putI19 W, r_putI20 W, r_putI21 W, r_putI22 W, r_putI23 W, r_putI24 W, r_putI25 W, r_putI26 W, r_putI27 W, r_putI28 W, Sum.map_inl, Sum.map_inr, id_eq, eJ19 W, eJ20 W, e_X4_asks W, e_X4_stay W]
def P_X4_lines (h0 : MS) : Option (Int32 × MS) :=
  Option.bind (piI h0 8 (0 : Int32)) fun h1 =>
  Option.bind (rd h1 0 (102 : Int32)) fun v3 =>
  some (v3, h1)
set_option maxHeartbeats 1000000 in
theorem e_X4_lines {m : Nat} {ad : Nat → Nat} {h : HH} (W : WFM m ad h) (h0 : MS)  : F_X4_lines m (pu m ad h0 h) = Option.map ((fun q => (q.1, pu m ad q.2 h))) (P_X4_lines h0) := by
  unfold F_X4_lines P_X4_lines
  simp only [bind_pu, b2_pu, bind_map9, map_bind9, map_pb29, map_ite9, map_some9, map_none9, bind_some9, r_isO, r_aldI W, r_astI W, mv0, mv1, mv2, mv4, mv6, mv9, mv10, mv13, mv14, mv15, mv17, mv18, r_getR0, r_getR1, r_getR2, r_getR4, r_getR6, r_getR9, r_getR10, r_getR13, r_getR14, r_getR15, r_getR17, r_getR18, r_getJ, r_putJ W, r_getI3, r_getI5, r_getI7, r_getI8, r_getI11, r_getI16, r_getI19, r_getI20, r_getI21, r_getI22, r_getI23, r_getI24, r_getI25, r_getI26, r_getI27, r_getI28, r_putI3 W, r_putI5 W, r_putI7 W, r_putI8 W, r_putI11 W, r_putI16 W, r_putI19 W, r_putI20 W, r_putI21 W, r_putI22 W, r_putI23 W, r_putI24 W, r_putI25 W, r_putI26 W, r_putI27 W, r_putI28 W, Sum.map_inl, Sum.map_inr, id_eq, eJ19 W, eJ20 W]
def P_X4_fromOf (a1 : Int32) (h0 : MS) : Option (Int32 × MS) :=

  Option.bind (P_X4_isLine a1 h0) fun v2 =>
  pb2 (P_X4_asks v2 h0) fun v5 h4 =>
  if v5 = 0 then (
    some ((0 : Int32), h4)
  ) else (
    Option.bind (P_X4_line a1 (0 : Int32) h4) fun v8 =>
    some (v8, h4)
  )
set_option maxHeartbeats 1000000 in
theorem e_X4_fromOf {m : Nat} {ad : Nat → Nat} {h : HH} (W : WFM m ad h) (a1 : Int32) (h0 : MS)  : F_X4_fromOf m a1 (pu m ad h0 h) = Option.map ((fun q => (q.1, pu m ad q.2 h))) (P_X4_fromOf a1 h0) := by
  unfold F_X4_fromOf P_X4_fromOf
  simp only [bind_pu, b2_pu, bind_map9, map_bind9, map_pb29, map_ite9, map_some9, map_none9, bind_some9, r_isO, r_aldI W, r_astI W, mv0, mv1, mv2, mv4, mv6, mv9, mv10, mv13, mv14, mv15, mv17, mv18, r_getR0, r_getR1, r_getR2, r_getR4, r_getR6, r_getR9, r_getR10, r_getR13, r_getR14, r_getR15, r_getR17, r_getR18, r_getJ, r_putJ W, r_getI3, r_getI5, r_getI7, r_getI8, r_getI11, r_getI16, r_getI19, r_getI20, r_getI21, r_getI22, r_getI23, r_getI24, r_getI25, r_getI26, r_getI27, r_getI28, r_putI3 W, r_putI5 W, r_putI7 W, r_putI8 W, r_putI11 W, r_putI16 W, r_putI19 W, r_putI20 W, r_putI21 W, r_putI22 W, r_putI23 W, r_putI24 W, r_putI25 W, r_putI26 W, r_putI27 W, r_putI28 W, Sum.map_inl, Sum.map_inr, id_eq, eJ19 W, eJ20 W, e_X4_asks W, e_X4_isLine W, e_X4_line W]
def P_X4_toOf (a1 : Int32) (h0 : MS) : Option (Int32 × MS) :=

  Option.bind (P_X4_isLine a1 h0) fun v2 =>
  pb2 (P_X4_asks v2 h0) fun v5 h4 =>
  if v5 = 0 then (
    some ((0 : Int32), h4)
  ) else (
    Option.bind (P_X4_line a1 (1 : Int32) h4) fun v8 =>
    some (v8, h4)
  )
set_option maxHeartbeats 1000000 in
theorem e_X4_toOf {m : Nat} {ad : Nat → Nat} {h : HH} (W : WFM m ad h) (a1 : Int32) (h0 : MS)  : F_X4_toOf m a1 (pu m ad h0 h) = Option.map ((fun q => (q.1, pu m ad q.2 h))) (P_X4_toOf a1 h0) := by
  unfold F_X4_toOf P_X4_toOf
  simp only [bind_pu, b2_pu, bind_map9, map_bind9, map_pb29, map_ite9, map_some9, map_none9, bind_some9, r_isO, r_aldI W, r_astI W, mv0, mv1, mv2, mv4, mv6, mv9, mv10, mv13, mv14, mv15, mv17, mv18, r_getR0, r_getR1, r_getR2, r_getR4, r_getR6, r_getR9, r_getR10, r_getR13, r_getR14, r_getR15, r_getR17, r_getR18, r_getJ, r_putJ W, r_getI3, r_getI5, r_getI7, r_getI8, r_getI11, r_getI16, r_getI19, r_getI20, r_getI21, r_getI22, r_getI23, r_getI24, r_getI25, r_getI26, r_getI27, r_getI28, r_putI3 W, r_putI5 W, r_putI7 W, r_putI8 W, r_putI11 W, r_putI16 W, r_putI19 W, r_putI20 W, r_putI21 W, r_putI22 W, r_putI23 W, r_putI24 W, r_putI25 W, r_putI26 W, r_putI27 W, r_putI28 W, Sum.map_inl, Sum.map_inr, id_eq, eJ19 W, eJ20 W, e_X4_asks W, e_X4_isLine W, e_X4_line W]
def P_X4_doesReset (a1 : Int32) (a2 : Int32) (h0 : MS) : Option (Int32 × MS) :=

  Option.bind (P_X4_isLine a1 h0) fun v2 =>
  pb2 (P_X4_asks (if v2 = 0 then (0 : Int32) else (if (F_X4_isClock a2) = 0 then (0 : Int32) else (1 : Int32))) h0) fun v7 h6 =>
  if v7 = 0 then (
    some ((0 : Int32), h6)
  ) else (
    Option.bind (P_X4_line a1 (8 : Int32) h6) fun v10 =>
    some ((if ((v10 >>> (a2 &&& 31)) &&& (1 : Int32)) = (1 : Int32) then (1 : Int32) else (0 : Int32)), h6)
  )
set_option maxHeartbeats 1000000 in
theorem e_X4_doesReset {m : Nat} {ad : Nat → Nat} {h : HH} (W : WFM m ad h) (a1 : Int32) (a2 : Int32) (h0 : MS)  : F_X4_doesReset m a1 a2 (pu m ad h0 h) = Option.map ((fun q => (q.1, pu m ad q.2 h))) (P_X4_doesReset a1 a2 h0) := by
  unfold F_X4_doesReset P_X4_doesReset
  simp only [bind_pu, b2_pu, bind_map9, map_bind9, map_pb29, map_ite9, map_some9, map_none9, bind_some9, r_isO, r_aldI W, r_astI W, mv0, mv1, mv2, mv4, mv6, mv9, mv10, mv13, mv14, mv15, mv17, mv18, r_getR0, r_getR1, r_getR2, r_getR4, r_getR6, r_getR9, r_getR10, r_getR13, r_getR14, r_getR15, r_getR17, r_getR18, r_getJ, r_putJ W, r_getI3, r_getI5, r_getI7, r_getI8, r_getI11, r_getI16, r_getI19, r_getI20, r_getI21, r_getI22, r_getI23, r_getI24, r_getI25, r_getI26, r_getI27, r_getI28, r_putI3 W, r_putI5 W, r_putI7 W, r_putI8 W, r_putI11 W, r_putI16 W, r_putI19 W, r_putI20 W, r_putI21 W, r_putI22 W, r_putI23 W, r_putI24 W, r_putI25 W, r_putI26 W, r_putI27 W, r_putI28 W, Sum.map_inl, Sum.map_inr, id_eq, eJ19 W, eJ20 W, e_X4_asks W, e_X4_isLine W, e_X4_line W]
def P_X4_adds (a1 : Int32) (a2 : Int32) (h0 : MS) : Option MS :=

  Option.bind (pgI h0 16) fun v3 =>
  Option.bind (P_X4_carries 9 (0 : Int32) 13 ((16 : Int32) * v3) h0) fun h4 =>
  Option.bind (pgI h4 16) fun v6 =>
  Option.bind (wr h4 14 v6 a1) fun h7 =>
  Option.bind (pgI h7 16) fun v9 =>
  Option.bind (wr h7 15 v9 a2) fun h10 =>
  Option.bind (pgI h10 16) fun v11 =>
  Option.bind (piI h10 16 (v11 + (1 : Int32))) fun h12 =>
  some h12
set_option maxHeartbeats 1000000 in
theorem e_X4_adds {m : Nat} {ad : Nat → Nat} {h : HH} (W : WFM m ad h) (a1 : Int32) (a2 : Int32) (h0 : MS)  : F_X4_adds m a1 a2 (pu m ad h0 h) = Option.map ((fun S => pu m ad S h)) (P_X4_adds a1 a2 h0) := by
  unfold F_X4_adds P_X4_adds
  simp only [bind_pu, b2_pu, bind_map9, map_bind9, map_pb29, map_ite9, map_some9, map_none9, bind_some9, r_isO, r_aldI W, r_astI W, mv0, mv1, mv2, mv4, mv6, mv9, mv10, mv13, mv14, mv15, mv17, mv18, r_getR0, r_getR1, r_getR2, r_getR4, r_getR6, r_getR9, r_getR10, r_getR13, r_getR14, r_getR15, r_getR17, r_getR18, r_getJ, r_putJ W, r_getI3, r_getI5, r_getI7, r_getI8, r_getI11, r_getI16, r_getI19, r_getI20, r_getI21, r_getI22, r_getI23, r_getI24, r_getI25, r_getI26, r_getI27, r_getI28, r_putI3 W, r_putI5 W, r_putI7 W, r_putI8 W, r_putI11 W, r_putI16 W, r_putI19 W, r_putI20 W, r_putI21 W, r_putI22 W, r_putI23 W, r_putI24 W, r_putI25 W, r_putI26 W, r_putI27 W, r_putI28 W, Sum.map_inl, Sum.map_inr, id_eq, eJ19 W, eJ20 W, e_X4_carries W]
def P_X4_needs_T58 (a1 : Int32) (x2_1 : Int32) (y0_58 : Int32) (y1_58 : Int32) (y2_58 : Nat) (h_58 : MS) : Option ((Int32 × MS) ⊕ MS) :=
  Option.bind (wr h_58 y2_58 y1_58 y0_58) fun h6 =>
  Option.bind (rd h6 9 ((12 : Int32) + x2_1)) fun v9 =>
  Option.bind (P_X4_line a1 ((2 : Int32) + x2_1) h6) fun v11 =>
  Option.bind (wr h6 9 ((12 : Int32) + x2_1) (F_X4_less v9 (-v11))) fun h12 =>
  some (.inl ((x2_1 + (1 : Int32)), h12))
set_option maxHeartbeats 1000000 in
theorem e_X4_needs_T58 {m : Nat} {ad : Nat → Nat} {h : HH} (W : WFM m ad h) (a1 : Int32) (x2_1 : Int32) (y0_58 : Int32) (y1_58 : Int32) (y2_58 : Nat) (h_58 : MS) (vy2_58 : y2_58 ∈ mvl) : F_X4_needs_T58 m a1 x2_1 y0_58 y1_58 (some (ad y2_58)) (pu m ad h_58 h) = Option.map (Sum.map (fun q => (q.1, pu m ad q.2 h)) (fun S => pu m ad S h)) (P_X4_needs_T58 a1 x2_1 y0_58 y1_58 y2_58 h_58) := by
  unfold F_X4_needs_T58 P_X4_needs_T58
  simp only [bind_pu, b2_pu, bind_map9, map_bind9, map_pb29, map_ite9, map_some9, map_none9, bind_some9, r_isO, r_aldI W, r_astI W, mv0, mv1, mv2, mv4, mv6, mv9, mv10, mv13, mv14, mv15, mv17, mv18, r_getR0, r_getR1, r_getR2, r_getR4, r_getR6, r_getR9, r_getR10, r_getR13, r_getR14, r_getR15, r_getR17, r_getR18, r_getJ, r_putJ W, r_getI3, r_getI5, r_getI7, r_getI8, r_getI11, r_getI16, r_getI19, r_getI20, r_getI21, r_getI22, r_getI23, r_getI24, r_getI25, r_getI26, r_getI27, r_getI28, r_putI3 W, r_putI5 W, r_putI7 W, r_putI8 W, r_putI11 W, r_putI16 W, r_putI19 W, r_putI20 W, r_putI21 W, r_putI22 W, r_putI23 W, r_putI24 W, r_putI25 W, r_putI26 W, r_putI27 W, r_putI28 W, Sum.map_inl, Sum.map_inr, id_eq, eJ19 W, eJ20 W, e_X4_line W, vy2_58]
def P_X4_needs_B2 (a1 : Int32) (x2_1 : Int32) (h_1 : MS) : Option ((Int32 × MS) ⊕ MS) :=
  if (3 : Int32) ≤ x2_1 then (
    some (.inr h_1)
  ) else (
    Option.bind (P_X4_line a1 ((5 : Int32) + x2_1) h_1) fun v4 =>
    if v4 = (10 : Int32) then (
      Option.bind (rd h_1 9 (((4 : Int32) * x2_1) + (3 : Int32))) fun v17 =>
      P_X4_needs_T58 a1 x2_1 v17 (((4 : Int32) * x2_1) + (3 : Int32)) 9 h_1
    ) else (
      Option.bind (rd h_1 9 (((4 : Int32) * x2_1) + (3 : Int32))) fun v15 =>
      P_X4_needs_T58 a1 x2_1 (F_X4_less v15 v4) (((4 : Int32) * x2_1) + (3 : Int32)) 9 h_1
    )
  )
set_option maxHeartbeats 1000000 in
theorem e_X4_needs_B2 {m : Nat} {ad : Nat → Nat} {h : HH} (W : WFM m ad h) (a1 : Int32) (x2_1 : Int32) (h_1 : MS)  : F_X4_needs_B2 m a1 x2_1 (pu m ad h_1 h) = Option.map (Sum.map (fun q => (q.1, pu m ad q.2 h)) (fun S => pu m ad S h)) (P_X4_needs_B2 a1 x2_1 h_1) := by
  unfold F_X4_needs_B2 P_X4_needs_B2
  simp only [bind_pu, b2_pu, bind_map9, map_bind9, map_pb29, map_ite9, map_some9, map_none9, bind_some9, r_isO, r_aldI W, r_astI W, mv0, mv1, mv2, mv4, mv6, mv9, mv10, mv13, mv14, mv15, mv17, mv18, r_getR0, r_getR1, r_getR2, r_getR4, r_getR6, r_getR9, r_getR10, r_getR13, r_getR14, r_getR15, r_getR17, r_getR18, r_getJ, r_putJ W, r_getI3, r_getI5, r_getI7, r_getI8, r_getI11, r_getI16, r_getI19, r_getI20, r_getI21, r_getI22, r_getI23, r_getI24, r_getI25, r_getI26, r_getI27, r_getI28, r_putI3 W, r_putI5 W, r_putI7 W, r_putI8 W, r_putI11 W, r_putI16 W, r_putI19 W, r_putI20 W, r_putI21 W, r_putI22 W, r_putI23 W, r_putI24 W, r_putI25 W, r_putI26 W, r_putI27 W, r_putI28 W, Sum.map_inl, Sum.map_inr, id_eq, eJ19 W, eJ20 W, e_X4_line W, e_X4_needs_T58 W]
theorem l_X4_needs_B2 {m : Nat} {ad : Nat → Nat} {h : HH} (W : WFM m ad h) (a1 : Int32)  (n : Nat) (x2_1 : Int32) (h_1 : MS) : lp (fun z => F_X4_needs_B2 m a1 z.1 z.2) n (x2_1, pu m ad h_1 h) = Option.map (fun S => pu m ad S h) (lp (fun z => P_X4_needs_B2 a1 z.1 z.2) n (x2_1, h_1)) := by
  have := lp_map9 (B := fun z => F_X4_needs_B2 m a1 z.1 z.2) (B' := fun z => P_X4_needs_B2 a1 z.1 z.2) (fun q => (q.1, pu m ad q.2 h)) (fun S => pu m ad S h) (fun z => e_X4_needs_B2 W a1 z.1 z.2 ) n (x2_1, h_1)
  exact this
def P_X4_needs (a1 : Int32) (h0 : MS) : Option (Int32 × MS) :=
  Option.bind (lp (fun z => P_X4_needs_B2 a1 z.1 z.2) 100000 ((0 : Int32), h0)) fun h18 =>
  pb2 (P_X4_tightens 9 (0 : Int32) h18) fun v21 h20 =>
  Option.bind (okZ v21) fun _ =>
  some (v21, h20)
set_option maxHeartbeats 1000000 in
theorem e_X4_needs {m : Nat} {ad : Nat → Nat} {h : HH} (W : WFM m ad h) (a1 : Int32) (h0 : MS)  : F_X4_needs m a1 (pu m ad h0 h) = Option.map ((fun q => (q.1, pu m ad q.2 h))) (P_X4_needs a1 h0) := by
  unfold F_X4_needs P_X4_needs
  simp only [bind_pu, b2_pu, bind_map9, map_bind9, map_pb29, map_ite9, map_some9, map_none9, bind_some9, r_isO, r_aldI W, r_astI W, mv0, mv1, mv2, mv4, mv6, mv9, mv10, mv13, mv14, mv15, mv17, mv18, r_getR0, r_getR1, r_getR2, r_getR4, r_getR6, r_getR9, r_getR10, r_getR13, r_getR14, r_getR15, r_getR17, r_getR18, r_getJ, r_putJ W, r_getI3, r_getI5, r_getI7, r_getI8, r_getI11, r_getI16, r_getI19, r_getI20, r_getI21, r_getI22, r_getI23, r_getI24, r_getI25, r_getI26, r_getI27, r_getI28, r_putI3 W, r_putI5 W, r_putI7 W, r_putI8 W, r_putI11 W, r_putI16 W, r_putI19 W, r_putI20 W, r_putI21 W, r_putI22 W, r_putI23 W, r_putI24 W, r_putI25 W, r_putI26 W, r_putI27 W, r_putI28 W, Sum.map_inl, Sum.map_inr, id_eq, eJ19 W, eJ20 W, l_X4_needs_B2 W, e_X4_tightens W]
def P_X4_staysIn_B2 (a1 : Int32) (x2_1 : Int32) (h_1 : MS) : Option ((Int32 × MS) ⊕ MS) :=
  if (3 : Int32) ≤ x2_1 then (
    some (.inr h_1)
  ) else (
    Option.bind (P_X4_stay a1 x2_1 h_1) fun v4 =>
    if v4 = (10 : Int32) then (
      Option.bind (rd h_1 9 (((4 : Int32) * x2_1) + (3 : Int32))) fun v11 =>
      Option.bind (wr h_1 9 (((4 : Int32) * x2_1) + (3 : Int32)) v11) fun h12 =>
      some (.inl ((x2_1 + (1 : Int32)), h12))
    ) else (
      Option.bind (rd h_1 9 (((4 : Int32) * x2_1) + (3 : Int32))) fun v8 =>
      Option.bind (wr h_1 9 (((4 : Int32) * x2_1) + (3 : Int32)) (F_X4_less v8 v4)) fun h9 =>
      some (.inl ((x2_1 + (1 : Int32)), h9))
    )
  )
set_option maxHeartbeats 1000000 in
theorem e_X4_staysIn_B2 {m : Nat} {ad : Nat → Nat} {h : HH} (W : WFM m ad h) (a1 : Int32) (x2_1 : Int32) (h_1 : MS)  : F_X4_staysIn_B2 m a1 x2_1 (pu m ad h_1 h) = Option.map (Sum.map (fun q => (q.1, pu m ad q.2 h)) (fun S => pu m ad S h)) (P_X4_staysIn_B2 a1 x2_1 h_1) := by
  unfold F_X4_staysIn_B2 P_X4_staysIn_B2
  simp only [bind_pu, b2_pu, bind_map9, map_bind9, map_pb29, map_ite9, map_some9, map_none9, bind_some9, r_isO, r_aldI W, r_astI W, mv0, mv1, mv2, mv4, mv6, mv9, mv10, mv13, mv14, mv15, mv17, mv18, r_getR0, r_getR1, r_getR2, r_getR4, r_getR6, r_getR9, r_getR10, r_getR13, r_getR14, r_getR15, r_getR17, r_getR18, r_getJ, r_putJ W, r_getI3, r_getI5, r_getI7, r_getI8, r_getI11, r_getI16, r_getI19, r_getI20, r_getI21, r_getI22, r_getI23, r_getI24, r_getI25, r_getI26, r_getI27, r_getI28, r_putI3 W, r_putI5 W, r_putI7 W, r_putI8 W, r_putI11 W, r_putI16 W, r_putI19 W, r_putI20 W, r_putI21 W, r_putI22 W, r_putI23 W, r_putI24 W, r_putI25 W, r_putI26 W, r_putI27 W, r_putI28 W, Sum.map_inl, Sum.map_inr, id_eq, eJ19 W, eJ20 W, e_X4_stay W]
theorem l_X4_staysIn_B2 {m : Nat} {ad : Nat → Nat} {h : HH} (W : WFM m ad h) (a1 : Int32)  (n : Nat) (x2_1 : Int32) (h_1 : MS) : lp (fun z => F_X4_staysIn_B2 m a1 z.1 z.2) n (x2_1, pu m ad h_1 h) = Option.map (fun S => pu m ad S h) (lp (fun z => P_X4_staysIn_B2 a1 z.1 z.2) n (x2_1, h_1)) := by
  have := lp_map9 (B := fun z => F_X4_staysIn_B2 m a1 z.1 z.2) (B' := fun z => P_X4_staysIn_B2 a1 z.1 z.2) (fun q => (q.1, pu m ad q.2 h)) (fun S => pu m ad S h) (fun z => e_X4_staysIn_B2 W a1 z.1 z.2 ) n (x2_1, h_1)
  exact this
def P_X4_staysIn (a1 : Int32) (h0 : MS) : Option (Int32 × MS) :=
  Option.bind (lp (fun z => P_X4_staysIn_B2 a1 z.1 z.2) 100000 ((0 : Int32), h0)) fun h13 =>
  pb2 (P_X4_tightens 9 (0 : Int32) h13) fun v16 h15 =>
  Option.bind (okZ v16) fun _ =>
  some (v16, h15)
set_option maxHeartbeats 1000000 in
theorem e_X4_staysIn {m : Nat} {ad : Nat → Nat} {h : HH} (W : WFM m ad h) (a1 : Int32) (h0 : MS)  : F_X4_staysIn m a1 (pu m ad h0 h) = Option.map ((fun q => (q.1, pu m ad q.2 h))) (P_X4_staysIn a1 h0) := by
  unfold F_X4_staysIn P_X4_staysIn
  simp only [bind_pu, b2_pu, bind_map9, map_bind9, map_pb29, map_ite9, map_some9, map_none9, bind_some9, r_isO, r_aldI W, r_astI W, mv0, mv1, mv2, mv4, mv6, mv9, mv10, mv13, mv14, mv15, mv17, mv18, r_getR0, r_getR1, r_getR2, r_getR4, r_getR6, r_getR9, r_getR10, r_getR13, r_getR14, r_getR15, r_getR17, r_getR18, r_getJ, r_putJ W, r_getI3, r_getI5, r_getI7, r_getI8, r_getI11, r_getI16, r_getI19, r_getI20, r_getI21, r_getI22, r_getI23, r_getI24, r_getI25, r_getI26, r_getI27, r_getI28, r_putI3 W, r_putI5 W, r_putI7 W, r_putI8 W, r_putI11 W, r_putI16 W, r_putI19 W, r_putI20 W, r_putI21 W, r_putI22 W, r_putI23 W, r_putI24 W, r_putI25 W, r_putI26 W, r_putI27 W, r_putI28 W, Sum.map_inl, Sum.map_inr, id_eq, eJ19 W, eJ20 W, l_X4_staysIn_B2 W, e_X4_tightens W]
def P_X4_widens_T33 (x1_1 : Int32) (y0_33 : Int32) (h_33 : MS) : Option ((Int32 × MS) ⊕ MS) :=

  if y0_33 = 0 then (
    Option.bind (rd h_33 9 x1_1) fun v6 =>
    Option.bind (wr h_33 9 x1_1 (F_X4_more v6 (-10 : Int32))) fun h7 =>
    some (.inl ((x1_1 + (1 : Int32)), h7))
  ) else (
    Option.bind (wr h_33 9 x1_1 (100000 : Int32)) fun h8 =>
    some (.inl ((x1_1 + (1 : Int32)), h8))
  )
set_option maxHeartbeats 1000000 in
theorem e_X4_widens_T33 {m : Nat} {ad : Nat → Nat} {h : HH} (W : WFM m ad h) (x1_1 : Int32) (y0_33 : Int32) (h_33 : MS)  : F_X4_widens_T33 m x1_1 y0_33 (pu m ad h_33 h) = Option.map (Sum.map (fun q => (q.1, pu m ad q.2 h)) (fun S => pu m ad S h)) (P_X4_widens_T33 x1_1 y0_33 h_33) := by
  unfold F_X4_widens_T33 P_X4_widens_T33
  simp only [bind_pu, b2_pu, bind_map9, map_bind9, map_pb29, map_ite9, map_some9, map_none9, bind_some9, r_isO, r_aldI W, r_astI W, mv0, mv1, mv2, mv4, mv6, mv9, mv10, mv13, mv14, mv15, mv17, mv18, r_getR0, r_getR1, r_getR2, r_getR4, r_getR6, r_getR9, r_getR10, r_getR13, r_getR14, r_getR15, r_getR17, r_getR18, r_getJ, r_putJ W, r_getI3, r_getI5, r_getI7, r_getI8, r_getI11, r_getI16, r_getI19, r_getI20, r_getI21, r_getI22, r_getI23, r_getI24, r_getI25, r_getI26, r_getI27, r_getI28, r_putI3 W, r_putI5 W, r_putI7 W, r_putI8 W, r_putI11 W, r_putI16 W, r_putI19 W, r_putI20 W, r_putI21 W, r_putI22 W, r_putI23 W, r_putI24 W, r_putI25 W, r_putI26 W, r_putI27 W, r_putI28 W, Sum.map_inl, Sum.map_inr, id_eq, eJ19 W, eJ20 W]
def P_X4_widens_B2 (x1_1 : Int32) (h_1 : MS) : Option ((Int32 × MS) ⊕ MS) :=
  if (16 : Int32) ≤ x1_1 then (
    some (.inr h_1)
  ) else (
    if (x1_1 / (4 : Int32)) = (x1_1 - x1_1 / (4 : Int32) * (4 : Int32)) then (
      P_X4_widens_T33 x1_1 (0 : Int32) h_1
    ) else (
      Option.bind (rd h_1 9 x1_1) fun v11 =>
      if v11 ≤ (9 : Int32) then (
        P_X4_widens_T33 x1_1 (0 : Int32) h_1
      ) else (
        P_X4_widens_T33 x1_1 (1 : Int32) h_1
      )
    )
  )
set_option maxHeartbeats 1000000 in
theorem e_X4_widens_B2 {m : Nat} {ad : Nat → Nat} {h : HH} (W : WFM m ad h) (x1_1 : Int32) (h_1 : MS)  : F_X4_widens_B2 m x1_1 (pu m ad h_1 h) = Option.map (Sum.map (fun q => (q.1, pu m ad q.2 h)) (fun S => pu m ad S h)) (P_X4_widens_B2 x1_1 h_1) := by
  unfold F_X4_widens_B2 P_X4_widens_B2
  simp only [bind_pu, b2_pu, bind_map9, map_bind9, map_pb29, map_ite9, map_some9, map_none9, bind_some9, r_isO, r_aldI W, r_astI W, mv0, mv1, mv2, mv4, mv6, mv9, mv10, mv13, mv14, mv15, mv17, mv18, r_getR0, r_getR1, r_getR2, r_getR4, r_getR6, r_getR9, r_getR10, r_getR13, r_getR14, r_getR15, r_getR17, r_getR18, r_getJ, r_putJ W, r_getI3, r_getI5, r_getI7, r_getI8, r_getI11, r_getI16, r_getI19, r_getI20, r_getI21, r_getI22, r_getI23, r_getI24, r_getI25, r_getI26, r_getI27, r_getI28, r_putI3 W, r_putI5 W, r_putI7 W, r_putI8 W, r_putI11 W, r_putI16 W, r_putI19 W, r_putI20 W, r_putI21 W, r_putI22 W, r_putI23 W, r_putI24 W, r_putI25 W, r_putI26 W, r_putI27 W, r_putI28 W, Sum.map_inl, Sum.map_inr, id_eq, eJ19 W, eJ20 W, e_X4_widens_T33 W]
theorem l_X4_widens_B2 {m : Nat} {ad : Nat → Nat} {h : HH} (W : WFM m ad h)   (n : Nat) (x1_1 : Int32) (h_1 : MS) : lp (fun z => F_X4_widens_B2 m z.1 z.2) n (x1_1, pu m ad h_1 h) = Option.map (fun S => pu m ad S h) (lp (fun z => P_X4_widens_B2  z.1 z.2) n (x1_1, h_1)) := by
  have := lp_map9 (B := fun z => F_X4_widens_B2 m z.1 z.2) (B' := fun z => P_X4_widens_B2  z.1 z.2) (fun q => (q.1, pu m ad q.2 h)) (fun S => pu m ad S h) (fun z => e_X4_widens_B2 W  z.1 z.2 ) n (x1_1, h_1)
  exact this
def P_X4_widens (h0 : MS) : Option MS :=
  Option.bind (lp (fun z => P_X4_widens_B2 z.1 z.2) 100000 ((0 : Int32), h0)) fun h13 =>
  pb2 (P_X4_tightens 9 (0 : Int32) h13) fun v16 h15 =>
  some h15
set_option maxHeartbeats 1000000 in
theorem e_X4_widens {m : Nat} {ad : Nat → Nat} {h : HH} (W : WFM m ad h) (h0 : MS)  : F_X4_widens m (pu m ad h0 h) = Option.map ((fun S => pu m ad S h)) (P_X4_widens h0) := by
  unfold F_X4_widens P_X4_widens
  simp only [bind_pu, b2_pu, bind_map9, map_bind9, map_pb29, map_ite9, map_some9, map_none9, bind_some9, r_isO, r_aldI W, r_astI W, mv0, mv1, mv2, mv4, mv6, mv9, mv10, mv13, mv14, mv15, mv17, mv18, r_getR0, r_getR1, r_getR2, r_getR4, r_getR6, r_getR9, r_getR10, r_getR13, r_getR14, r_getR15, r_getR17, r_getR18, r_getJ, r_putJ W, r_getI3, r_getI5, r_getI7, r_getI8, r_getI11, r_getI16, r_getI19, r_getI20, r_getI21, r_getI22, r_getI23, r_getI24, r_getI25, r_getI26, r_getI27, r_getI28, r_putI3 W, r_putI5 W, r_putI7 W, r_putI8 W, r_putI11 W, r_putI16 W, r_putI19 W, r_putI20 W, r_putI21 W, r_putI22 W, r_putI23 W, r_putI24 W, r_putI25 W, r_putI26 W, r_putI27 W, r_putI28 W, Sum.map_inl, Sum.map_inr, id_eq, eJ19 W, eJ20 W, e_X4_tightens W, l_X4_widens_B2 W]
def P_X4_goes_B28 (a1 : Int32) (a2 : Int32) (x3_8 : Int32) (h_8 : MS) : Option ((Int32 × MS) ⊕ MS) :=
  if (3 : Int32) ≤ x3_8 then (
    some (.inr h_8)
  ) else (
    Option.bind (P_X4_line a2 (8 : Int32) h_8) fun v11 =>
    if ((v11 >>> (x3_8 &&& 31)) &&& (1 : Int32)) = (1 : Int32) then (
      Option.bind (P_X4_resets x3_8 (0 : Int32) h_8) fun h14 =>
      some (.inl ((x3_8 + (1 : Int32)), h14))
    ) else (
      some (.inl ((x3_8 + (1 : Int32)), h_8))
    )
  )
set_option maxHeartbeats 1000000 in
theorem e_X4_goes_B28 {m : Nat} {ad : Nat → Nat} {h : HH} (W : WFM m ad h) (a1 : Int32) (a2 : Int32) (x3_8 : Int32) (h_8 : MS)  : F_X4_goes_B28 m a1 a2 x3_8 (pu m ad h_8 h) = Option.map (Sum.map (fun q => (q.1, pu m ad q.2 h)) (fun S => pu m ad S h)) (P_X4_goes_B28 a1 a2 x3_8 h_8) := by
  unfold F_X4_goes_B28 P_X4_goes_B28
  simp only [bind_pu, b2_pu, bind_map9, map_bind9, map_pb29, map_ite9, map_some9, map_none9, bind_some9, r_isO, r_aldI W, r_astI W, mv0, mv1, mv2, mv4, mv6, mv9, mv10, mv13, mv14, mv15, mv17, mv18, r_getR0, r_getR1, r_getR2, r_getR4, r_getR6, r_getR9, r_getR10, r_getR13, r_getR14, r_getR15, r_getR17, r_getR18, r_getJ, r_putJ W, r_getI3, r_getI5, r_getI7, r_getI8, r_getI11, r_getI16, r_getI19, r_getI20, r_getI21, r_getI22, r_getI23, r_getI24, r_getI25, r_getI26, r_getI27, r_getI28, r_putI3 W, r_putI5 W, r_putI7 W, r_putI8 W, r_putI11 W, r_putI16 W, r_putI19 W, r_putI20 W, r_putI21 W, r_putI22 W, r_putI23 W, r_putI24 W, r_putI25 W, r_putI26 W, r_putI27 W, r_putI28 W, Sum.map_inl, Sum.map_inr, id_eq, eJ19 W, eJ20 W, e_X4_line W, e_X4_resets W]
theorem l_X4_goes_B28 {m : Nat} {ad : Nat → Nat} {h : HH} (W : WFM m ad h) (a1 : Int32) (a2 : Int32)  (n : Nat) (x3_8 : Int32) (h_8 : MS) : lp (fun z => F_X4_goes_B28 m a1 a2 z.1 z.2) n (x3_8, pu m ad h_8 h) = Option.map (fun S => pu m ad S h) (lp (fun z => P_X4_goes_B28 a1 a2 z.1 z.2) n (x3_8, h_8)) := by
  have := lp_map9 (B := fun z => F_X4_goes_B28 m a1 a2 z.1 z.2) (B' := fun z => P_X4_goes_B28 a1 a2 z.1 z.2) (fun q => (q.1, pu m ad q.2 h)) (fun S => pu m ad S h) (fun z => e_X4_goes_B28 W a1 a2 z.1 z.2 ) n (x3_8, h_8)
  exact this
def P_X4_goes (a1 : Int32) (a2 : Int32) (h0 : MS) : Option (Int32 × MS) :=

  Option.bind (P_X4_carries 13 ((16 : Int32) * a1) 9 (0 : Int32) h0) fun h3 =>
  pb2 (P_X4_needs a2 h3) fun v6 h5 =>
  if v6 = 0 then (
    some ((0 : Int32), h5)
  ) else (
    Option.bind (lp (fun z => P_X4_goes_B28 a1 a2 z.1 z.2) 100000 ((0 : Int32), h5)) fun h15 =>
    Option.bind (P_X4_line a2 (1 : Int32) h15) fun v17 =>
    pb2 (P_X4_staysIn v17 h15) fun v20 h19 =>
    if v20 = 0 then (
      some ((0 : Int32), h19)
    ) else (
      pb2 (P_X4_delays h19) fun v24 h23 =>
      Option.bind (P_X4_line a2 (1 : Int32) h23) fun v26 =>
      pb2 (P_X4_staysIn v26 h23) fun v29 h28 =>
      Option.bind (P_X4_widens h28) fun h31 =>
      some ((if v29 = 0 then (0 : Int32) else (if v24 < 0 then (0 : Int32) else (1 : Int32))), h31)
    )
  )
set_option maxHeartbeats 1000000 in
theorem e_X4_goes {m : Nat} {ad : Nat → Nat} {h : HH} (W : WFM m ad h) (a1 : Int32) (a2 : Int32) (h0 : MS)  : F_X4_goes m a1 a2 (pu m ad h0 h) = Option.map ((fun q => (q.1, pu m ad q.2 h))) (P_X4_goes a1 a2 h0) := by
  unfold F_X4_goes P_X4_goes
  simp only [bind_pu, b2_pu, bind_map9, map_bind9, map_pb29, map_ite9, map_some9, map_none9, bind_some9, r_isO, r_aldI W, r_astI W, mv0, mv1, mv2, mv4, mv6, mv9, mv10, mv13, mv14, mv15, mv17, mv18, r_getR0, r_getR1, r_getR2, r_getR4, r_getR6, r_getR9, r_getR10, r_getR13, r_getR14, r_getR15, r_getR17, r_getR18, r_getJ, r_putJ W, r_getI3, r_getI5, r_getI7, r_getI8, r_getI11, r_getI16, r_getI19, r_getI20, r_getI21, r_getI22, r_getI23, r_getI24, r_getI25, r_getI26, r_getI27, r_getI28, r_putI3 W, r_putI5 W, r_putI7 W, r_putI8 W, r_putI11 W, r_putI16 W, r_putI19 W, r_putI20 W, r_putI21 W, r_putI22 W, r_putI23 W, r_putI24 W, r_putI25 W, r_putI26 W, r_putI27 W, r_putI28 W, Sum.map_inl, Sum.map_inr, id_eq, eJ19 W, eJ20 W, e_X4_carries W, e_X4_delays W, l_X4_goes_B28 W, e_X4_line W, e_X4_needs W, e_X4_staysIn W, e_X4_widens W]
def P_X4_isNew_B4 (a1 : Int32) (x2_1 : Int32) (x3_1 : Int32) (h0 : MS) : Option ((Int32 × Int32) ⊕ Int32) :=
  Option.bind (pgI h0 16) fun v2 =>
  if v2 ≤ x3_1 then (
    some (.inr x2_1)
  ) else (
    if x2_1 = 0 then (
      some (.inl ((0 : Int32), (x3_1 + (1 : Int32))))
    ) else (
      Option.bind (rd h0 14 x3_1) fun v6 =>
      if v6 = a1 then (
        Option.bind (P_X4_isInside 9 (0 : Int32) 13 ((16 : Int32) * x3_1) h0) fun v10 =>
        some (.inl ((if v10 = 0 then (1 : Int32) else (0 : Int32)), (x3_1 + (1 : Int32))))
      ) else (
        some (.inl ((1 : Int32), (x3_1 + (1 : Int32))))
      )
    )
  )
set_option maxHeartbeats 1000000 in
theorem e_X4_isNew_B4 {m : Nat} {ad : Nat → Nat} {h : HH} (W : WFM m ad h) (a1 : Int32) (x2_1 : Int32) (x3_1 : Int32) (h0 : MS)  : F_X4_isNew_B4 m a1 x2_1 x3_1 (pu m ad h0 h) = P_X4_isNew_B4 a1 x2_1 x3_1 h0 := by
  unfold F_X4_isNew_B4 P_X4_isNew_B4
  simp only [bind_pu, b2_pu, bind_map9, map_bind9, map_pb29, map_ite9, map_some9, map_none9, bind_some9, r_isO, r_aldI W, r_astI W, mv0, mv1, mv2, mv4, mv6, mv9, mv10, mv13, mv14, mv15, mv17, mv18, r_getR0, r_getR1, r_getR2, r_getR4, r_getR6, r_getR9, r_getR10, r_getR13, r_getR14, r_getR15, r_getR17, r_getR18, r_getJ, r_putJ W, r_getI3, r_getI5, r_getI7, r_getI8, r_getI11, r_getI16, r_getI19, r_getI20, r_getI21, r_getI22, r_getI23, r_getI24, r_getI25, r_getI26, r_getI27, r_getI28, r_putI3 W, r_putI5 W, r_putI7 W, r_putI8 W, r_putI11 W, r_putI16 W, r_putI19 W, r_putI20 W, r_putI21 W, r_putI22 W, r_putI23 W, r_putI24 W, r_putI25 W, r_putI26 W, r_putI27 W, r_putI28 W, Sum.map_inl, Sum.map_inr, id_eq, eJ19 W, eJ20 W, e_X4_isInside W]
def P_X4_isNew (a1 : Int32) (h0 : MS) : Option Int32 :=
  Option.bind (lp (fun z => P_X4_isNew_B4 a1 z.1 z.2 h0) 100000 ((1 : Int32), (0 : Int32))) fun v12 =>
  Option.bind (okZ v12) fun _ =>
  some v12
set_option maxHeartbeats 1000000 in
theorem e_X4_isNew {m : Nat} {ad : Nat → Nat} {h : HH} (W : WFM m ad h) (a1 : Int32) (h0 : MS)  : F_X4_isNew m a1 (pu m ad h0 h) = P_X4_isNew a1 h0 := by
  unfold F_X4_isNew P_X4_isNew
  simp only [bind_pu, b2_pu, bind_map9, map_bind9, map_pb29, map_ite9, map_some9, map_none9, bind_some9, r_isO, r_aldI W, r_astI W, mv0, mv1, mv2, mv4, mv6, mv9, mv10, mv13, mv14, mv15, mv17, mv18, r_getR0, r_getR1, r_getR2, r_getR4, r_getR6, r_getR9, r_getR10, r_getR13, r_getR14, r_getR15, r_getR17, r_getR18, r_getJ, r_putJ W, r_getI3, r_getI5, r_getI7, r_getI8, r_getI11, r_getI16, r_getI19, r_getI20, r_getI21, r_getI22, r_getI23, r_getI24, r_getI25, r_getI26, r_getI27, r_getI28, r_putI3 W, r_putI5 W, r_putI7 W, r_putI8 W, r_putI11 W, r_putI16 W, r_putI19 W, r_putI20 W, r_putI21 W, r_putI22 W, r_putI23 W, r_putI24 W, r_putI25 W, r_putI26 W, r_putI27 W, r_putI28 W, Sum.map_inl, Sum.map_inr, id_eq, eJ19 W, eJ20 W, e_X4_isNew_B4 W]
def P_X4_spreads_B7 (x1_2 : Int32) (h_2 : MS) : Option ((Int32 × MS) ⊕ MS) :=
  if (16 : Int32) ≤ x1_2 then (
    some (.inr h_2)
  ) else (
    Option.bind (wr h_2 9 x1_2 (0 : Int32)) fun h5 =>
    some (.inl ((x1_2 + (1 : Int32)), h5))
  )
set_option maxHeartbeats 1000000 in
theorem e_X4_spreads_B7 {m : Nat} {ad : Nat → Nat} {h : HH} (W : WFM m ad h) (x1_2 : Int32) (h_2 : MS)  : F_X4_spreads_B7 m x1_2 (pu m ad h_2 h) = Option.map (Sum.map (fun q => (q.1, pu m ad q.2 h)) (fun S => pu m ad S h)) (P_X4_spreads_B7 x1_2 h_2) := by
  unfold F_X4_spreads_B7 P_X4_spreads_B7
  simp only [bind_pu, b2_pu, bind_map9, map_bind9, map_pb29, map_ite9, map_some9, map_none9, bind_some9, r_isO, r_aldI W, r_astI W, mv0, mv1, mv2, mv4, mv6, mv9, mv10, mv13, mv14, mv15, mv17, mv18, r_getR0, r_getR1, r_getR2, r_getR4, r_getR6, r_getR9, r_getR10, r_getR13, r_getR14, r_getR15, r_getR17, r_getR18, r_getJ, r_putJ W, r_getI3, r_getI5, r_getI7, r_getI8, r_getI11, r_getI16, r_getI19, r_getI20, r_getI21, r_getI22, r_getI23, r_getI24, r_getI25, r_getI26, r_getI27, r_getI28, r_putI3 W, r_putI5 W, r_putI7 W, r_putI8 W, r_putI11 W, r_putI16 W, r_putI19 W, r_putI20 W, r_putI21 W, r_putI22 W, r_putI23 W, r_putI24 W, r_putI25 W, r_putI26 W, r_putI27 W, r_putI28 W, Sum.map_inl, Sum.map_inr, id_eq, eJ19 W, eJ20 W]
theorem l_X4_spreads_B7 {m : Nat} {ad : Nat → Nat} {h : HH} (W : WFM m ad h)   (n : Nat) (x1_2 : Int32) (h_2 : MS) : lp (fun z => F_X4_spreads_B7 m z.1 z.2) n (x1_2, pu m ad h_2 h) = Option.map (fun S => pu m ad S h) (lp (fun z => P_X4_spreads_B7  z.1 z.2) n (x1_2, h_2)) := by
  have := lp_map9 (B := fun z => F_X4_spreads_B7 m z.1 z.2) (B' := fun z => P_X4_spreads_B7  z.1 z.2) (fun q => (q.1, pu m ad q.2 h)) (fun S => pu m ad S h) (fun z => e_X4_spreads_B7 W  z.1 z.2 ) n (x1_2, h_2)
  exact this
def P_X4_spreads_T147 (x3_15 : Int32) (x4_20 : Int32) (y0_147 : Int32) (h_147 : MS) : Option ((Int32 × MS) ⊕ MS) :=
  if y0_147 = 0 then (
    some (.inl ((x4_20 + (1 : Int32)), h_147))
  ) else (
    Option.bind (P_X4_line x4_20 (1 : Int32) h_147) fun v32 =>
    Option.bind (rd h_147 15 x3_15) fun v34 =>
    Option.bind (P_X4_adds v32 (v34 + (1 : Int32)) h_147) fun h36 =>
    some (.inl ((x4_20 + (1 : Int32)), h36))
  )
set_option maxHeartbeats 1000000 in
theorem e_X4_spreads_T147 {m : Nat} {ad : Nat → Nat} {h : HH} (W : WFM m ad h) (x3_15 : Int32) (x4_20 : Int32) (y0_147 : Int32) (h_147 : MS)  : F_X4_spreads_T147 m x3_15 x4_20 y0_147 (pu m ad h_147 h) = Option.map (Sum.map (fun q => (q.1, pu m ad q.2 h)) (fun S => pu m ad S h)) (P_X4_spreads_T147 x3_15 x4_20 y0_147 h_147) := by
  unfold F_X4_spreads_T147 P_X4_spreads_T147
  simp only [bind_pu, b2_pu, bind_map9, map_bind9, map_pb29, map_ite9, map_some9, map_none9, bind_some9, r_isO, r_aldI W, r_astI W, mv0, mv1, mv2, mv4, mv6, mv9, mv10, mv13, mv14, mv15, mv17, mv18, r_getR0, r_getR1, r_getR2, r_getR4, r_getR6, r_getR9, r_getR10, r_getR13, r_getR14, r_getR15, r_getR17, r_getR18, r_getJ, r_putJ W, r_getI3, r_getI5, r_getI7, r_getI8, r_getI11, r_getI16, r_getI19, r_getI20, r_getI21, r_getI22, r_getI23, r_getI24, r_getI25, r_getI26, r_getI27, r_getI28, r_putI3 W, r_putI5 W, r_putI7 W, r_putI8 W, r_putI11 W, r_putI16 W, r_putI19 W, r_putI20 W, r_putI21 W, r_putI22 W, r_putI23 W, r_putI24 W, r_putI25 W, r_putI26 W, r_putI27 W, r_putI28 W, Sum.map_inl, Sum.map_inr, id_eq, eJ19 W, eJ20 W, e_X4_adds W, e_X4_line W]
def P_X4_spreads_B81 (x3_15 : Int32) (x4_20 : Int32) (h_20 : MS) : Option ((Int32 × MS) ⊕ MS) :=

  Option.bind (rd h_20 0 (102 : Int32)) fun v22 =>
  if v22 ≤ x4_20 then (
    some (.inr h_20)
  ) else (
    Option.bind (pgI h_20 16) fun v24 =>
    if (120 : Int32) < v24 then (
      some (.inr h_20)
    ) else (
      Option.bind (P_X4_line x4_20 (0 : Int32) h_20) fun v27 =>
      Option.bind (rd h_20 14 x3_15) fun v29 =>
      if v27 = v29 then (
        pb2 (P_X4_goes x3_15 x4_20 h_20) fun v40 h39 =>
        if v40 = 0 then (
          P_X4_spreads_T147 x3_15 x4_20 (0 : Int32) h39
        ) else (
          Option.bind (P_X4_line x4_20 (1 : Int32) h39) fun v43 =>
          Option.bind (P_X4_isNew v43 h39) fun v45 =>
          if v45 = 0 then (
            P_X4_spreads_T147 x3_15 x4_20 (0 : Int32) h39
          ) else (
            P_X4_spreads_T147 x3_15 x4_20 (1 : Int32) h39
          )
        )
      ) else (
        P_X4_spreads_T147 x3_15 x4_20 (0 : Int32) h_20
      )
    )
  )
set_option maxHeartbeats 1000000 in
theorem e_X4_spreads_B81 {m : Nat} {ad : Nat → Nat} {h : HH} (W : WFM m ad h) (x3_15 : Int32) (x4_20 : Int32) (h_20 : MS)  : F_X4_spreads_B81 m x3_15 x4_20 (pu m ad h_20 h) = Option.map (Sum.map (fun q => (q.1, pu m ad q.2 h)) (fun S => pu m ad S h)) (P_X4_spreads_B81 x3_15 x4_20 h_20) := by
  unfold F_X4_spreads_B81 P_X4_spreads_B81
  simp only [bind_pu, b2_pu, bind_map9, map_bind9, map_pb29, map_ite9, map_some9, map_none9, bind_some9, r_isO, r_aldI W, r_astI W, mv0, mv1, mv2, mv4, mv6, mv9, mv10, mv13, mv14, mv15, mv17, mv18, r_getR0, r_getR1, r_getR2, r_getR4, r_getR6, r_getR9, r_getR10, r_getR13, r_getR14, r_getR15, r_getR17, r_getR18, r_getJ, r_putJ W, r_getI3, r_getI5, r_getI7, r_getI8, r_getI11, r_getI16, r_getI19, r_getI20, r_getI21, r_getI22, r_getI23, r_getI24, r_getI25, r_getI26, r_getI27, r_getI28, r_putI3 W, r_putI5 W, r_putI7 W, r_putI8 W, r_putI11 W, r_putI16 W, r_putI19 W, r_putI20 W, r_putI21 W, r_putI22 W, r_putI23 W, r_putI24 W, r_putI25 W, r_putI26 W, r_putI27 W, r_putI28 W, Sum.map_inl, Sum.map_inr, id_eq, eJ19 W, eJ20 W, e_X4_goes W, e_X4_isNew W, e_X4_line W, e_X4_spreads_T147 W]
theorem l_X4_spreads_B81 {m : Nat} {ad : Nat → Nat} {h : HH} (W : WFM m ad h) (x3_15 : Int32)  (n : Nat) (x4_20 : Int32) (h_20 : MS) : lp (fun z => F_X4_spreads_B81 m x3_15 z.1 z.2) n (x4_20, pu m ad h_20 h) = Option.map (fun S => pu m ad S h) (lp (fun z => P_X4_spreads_B81 x3_15 z.1 z.2) n (x4_20, h_20)) := by
  have := lp_map9 (B := fun z => F_X4_spreads_B81 m x3_15 z.1 z.2) (B' := fun z => P_X4_spreads_B81 x3_15 z.1 z.2) (fun q => (q.1, pu m ad q.2 h)) (fun S => pu m ad S h) (fun z => e_X4_spreads_B81 W x3_15 z.1 z.2 ) n (x4_20, h_20)
  exact this
def P_X4_spreads_B61 (x3_15 : Int32) (h_15 : MS) : Option ((Int32 × MS) ⊕ MS) :=
  Option.bind (pgI h_15 16) fun v16 =>
  if v16 ≤ x3_15 then (
    some (.inr h_15)
  ) else (
    Option.bind (pgI h_15 16) fun v18 =>
    if (120 : Int32) < v18 then (
      some (.inr h_15)
    ) else (
      Option.bind (lp (fun z => P_X4_spreads_B81 x3_15 z.1 z.2) 100000 ((0 : Int32), h_15)) fun h47 =>
      some (.inl ((x3_15 + (1 : Int32)), h47))
    )
  )
set_option maxHeartbeats 1000000 in
theorem e_X4_spreads_B61 {m : Nat} {ad : Nat → Nat} {h : HH} (W : WFM m ad h) (x3_15 : Int32) (h_15 : MS)  : F_X4_spreads_B61 m x3_15 (pu m ad h_15 h) = Option.map (Sum.map (fun q => (q.1, pu m ad q.2 h)) (fun S => pu m ad S h)) (P_X4_spreads_B61 x3_15 h_15) := by
  unfold F_X4_spreads_B61 P_X4_spreads_B61
  simp only [bind_pu, b2_pu, bind_map9, map_bind9, map_pb29, map_ite9, map_some9, map_none9, bind_some9, r_isO, r_aldI W, r_astI W, mv0, mv1, mv2, mv4, mv6, mv9, mv10, mv13, mv14, mv15, mv17, mv18, r_getR0, r_getR1, r_getR2, r_getR4, r_getR6, r_getR9, r_getR10, r_getR13, r_getR14, r_getR15, r_getR17, r_getR18, r_getJ, r_putJ W, r_getI3, r_getI5, r_getI7, r_getI8, r_getI11, r_getI16, r_getI19, r_getI20, r_getI21, r_getI22, r_getI23, r_getI24, r_getI25, r_getI26, r_getI27, r_getI28, r_putI3 W, r_putI5 W, r_putI7 W, r_putI8 W, r_putI11 W, r_putI16 W, r_putI19 W, r_putI20 W, r_putI21 W, r_putI22 W, r_putI23 W, r_putI24 W, r_putI25 W, r_putI26 W, r_putI27 W, r_putI28 W, Sum.map_inl, Sum.map_inr, id_eq, eJ19 W, eJ20 W, l_X4_spreads_B81 W]
theorem l_X4_spreads_B61 {m : Nat} {ad : Nat → Nat} {h : HH} (W : WFM m ad h)   (n : Nat) (x3_15 : Int32) (h_15 : MS) : lp (fun z => F_X4_spreads_B61 m z.1 z.2) n (x3_15, pu m ad h_15 h) = Option.map (fun S => pu m ad S h) (lp (fun z => P_X4_spreads_B61  z.1 z.2) n (x3_15, h_15)) := by
  have := lp_map9 (B := fun z => F_X4_spreads_B61 m z.1 z.2) (B' := fun z => P_X4_spreads_B61  z.1 z.2) (fun q => (q.1, pu m ad q.2 h)) (fun S => pu m ad S h) (fun z => e_X4_spreads_B61 W  z.1 z.2 ) n (x3_15, h_15)
  exact this
def P_X4_spreads_T59 (h_59 : MS) : Option (Int32 × MS) :=
  Option.bind (lp (fun z => P_X4_spreads_B61 z.1 z.2) 100000 ((0 : Int32), h_59)) fun h50 =>
  Option.bind (pgI h50 16) fun v51 =>
  some ((if (120 : Int32) < v51 then (0 : Int32) else (1 : Int32)), h50)
set_option maxHeartbeats 1000000 in
theorem e_X4_spreads_T59 {m : Nat} {ad : Nat → Nat} {h : HH} (W : WFM m ad h) (h_59 : MS)  : F_X4_spreads_T59 m (pu m ad h_59 h) = Option.map ((fun q => (q.1, pu m ad q.2 h))) (P_X4_spreads_T59 h_59) := by
  unfold F_X4_spreads_T59 P_X4_spreads_T59
  simp only [bind_pu, b2_pu, bind_map9, map_bind9, map_pb29, map_ite9, map_some9, map_none9, bind_some9, r_isO, r_aldI W, r_astI W, mv0, mv1, mv2, mv4, mv6, mv9, mv10, mv13, mv14, mv15, mv17, mv18, r_getR0, r_getR1, r_getR2, r_getR4, r_getR6, r_getR9, r_getR10, r_getR13, r_getR14, r_getR15, r_getR17, r_getR18, r_getJ, r_putJ W, r_getI3, r_getI5, r_getI7, r_getI8, r_getI11, r_getI16, r_getI19, r_getI20, r_getI21, r_getI22, r_getI23, r_getI24, r_getI25, r_getI26, r_getI27, r_getI28, r_putI3 W, r_putI5 W, r_putI7 W, r_putI8 W, r_putI11 W, r_putI16 W, r_putI19 W, r_putI20 W, r_putI21 W, r_putI22 W, r_putI23 W, r_putI24 W, r_putI25 W, r_putI26 W, r_putI27 W, r_putI28 W, Sum.map_inl, Sum.map_inr, id_eq, eJ19 W, eJ20 W, l_X4_spreads_B61 W]
def P_X4_spreads (h0 : MS) : Option (Int32 × MS) :=
  Option.bind (piI h0 16 (0 : Int32)) fun h1 =>
  Option.bind (lp (fun z => P_X4_spreads_B7 z.1 z.2) 100000 ((0 : Int32), h1)) fun h6 =>
  pb2 (P_X4_delays h6) fun v9 h8 =>
  pb2 (P_X4_staysIn (0 : Int32) h8) fun v12 h11 =>
  if (if v12 = 0 then (0 : Int32) else (if v9 < 0 then (0 : Int32) else (1 : Int32))) = 0 then (
    P_X4_spreads_T59  h11
  ) else (
    Option.bind (P_X4_adds (0 : Int32) (0 : Int32) h11) fun h57 =>
    P_X4_spreads_T59  h57
  )
set_option maxHeartbeats 1000000 in
theorem e_X4_spreads {m : Nat} {ad : Nat → Nat} {h : HH} (W : WFM m ad h) (h0 : MS)  : F_X4_spreads m (pu m ad h0 h) = Option.map ((fun q => (q.1, pu m ad q.2 h))) (P_X4_spreads h0) := by
  unfold F_X4_spreads P_X4_spreads
  simp only [bind_pu, b2_pu, bind_map9, map_bind9, map_pb29, map_ite9, map_some9, map_none9, bind_some9, r_isO, r_aldI W, r_astI W, mv0, mv1, mv2, mv4, mv6, mv9, mv10, mv13, mv14, mv15, mv17, mv18, r_getR0, r_getR1, r_getR2, r_getR4, r_getR6, r_getR9, r_getR10, r_getR13, r_getR14, r_getR15, r_getR17, r_getR18, r_getJ, r_putJ W, r_getI3, r_getI5, r_getI7, r_getI8, r_getI11, r_getI16, r_getI19, r_getI20, r_getI21, r_getI22, r_getI23, r_getI24, r_getI25, r_getI26, r_getI27, r_getI28, r_putI3 W, r_putI5 W, r_putI7 W, r_putI8 W, r_putI11 W, r_putI16 W, r_putI19 W, r_putI20 W, r_putI21 W, r_putI22 W, r_putI23 W, r_putI24 W, r_putI25 W, r_putI26 W, r_putI27 W, r_putI28 W, Sum.map_inl, Sum.map_inr, id_eq, eJ19 W, eJ20 W, e_X4_adds W, e_X4_delays W, l_X4_spreads_B7 W, e_X4_spreads_T59 W, e_X4_staysIn W]
def P_X4_reachable_B17 (x1_8 : Int32) (x2_8 : Int32) (h5 : MS) : Option ((Int32 × Int32) ⊕ Int32) :=
  Option.bind (pgI h5 16) fun v9 =>
  if v9 ≤ x2_8 then (
    some (.inr x1_8)
  ) else (
    Option.bind (rd h5 14 x2_8) fun v12 =>
    some (.inl ((x1_8 ||| ((1 : Int32) <<< (v12 &&& 31))), (x2_8 + (1 : Int32))))
  )
set_option maxHeartbeats 1000000 in
theorem e_X4_reachable_B17 {m : Nat} {ad : Nat → Nat} {h : HH} (W : WFM m ad h) (x1_8 : Int32) (x2_8 : Int32) (h5 : MS)  : F_X4_reachable_B17 m x1_8 x2_8 (pu m ad h5 h) = P_X4_reachable_B17 x1_8 x2_8 h5 := by
  unfold F_X4_reachable_B17 P_X4_reachable_B17
  simp only [bind_pu, b2_pu, bind_map9, map_bind9, map_pb29, map_ite9, map_some9, map_none9, bind_some9, r_isO, r_aldI W, r_astI W, mv0, mv1, mv2, mv4, mv6, mv9, mv10, mv13, mv14, mv15, mv17, mv18, r_getR0, r_getR1, r_getR2, r_getR4, r_getR6, r_getR9, r_getR10, r_getR13, r_getR14, r_getR15, r_getR17, r_getR18, r_getJ, r_putJ W, r_getI3, r_getI5, r_getI7, r_getI8, r_getI11, r_getI16, r_getI19, r_getI20, r_getI21, r_getI22, r_getI23, r_getI24, r_getI25, r_getI26, r_getI27, r_getI28, r_putI3 W, r_putI5 W, r_putI7 W, r_putI8 W, r_putI11 W, r_putI16 W, r_putI19 W, r_putI20 W, r_putI21 W, r_putI22 W, r_putI23 W, r_putI24 W, r_putI25 W, r_putI26 W, r_putI27 W, r_putI28 W, Sum.map_inl, Sum.map_inr, id_eq, eJ19 W, eJ20 W]
def P_X4_reachable (h0 : MS) : Option (Int32 × MS) :=

  pb2 (P_X4_spreads h0) fun v3 h2 =>
  pb2 (P_X4_asks v3 h2) fun v6 h5 =>
  if v6 = 0 then (
    some ((0 : Int32), h5)
  ) else (
    Option.bind (lp (fun z => P_X4_reachable_B17 z.1 z.2 h5) 100000 ((0 : Int32), (0 : Int32))) fun v13 =>
    some (v13, h5)
  )
set_option maxHeartbeats 1000000 in
theorem e_X4_reachable {m : Nat} {ad : Nat → Nat} {h : HH} (W : WFM m ad h) (h0 : MS)  : F_X4_reachable m (pu m ad h0 h) = Option.map ((fun q => (q.1, pu m ad q.2 h))) (P_X4_reachable h0) := by
  unfold F_X4_reachable P_X4_reachable
  simp only [bind_pu, b2_pu, bind_map9, map_bind9, map_pb29, map_ite9, map_some9, map_none9, bind_some9, r_isO, r_aldI W, r_astI W, mv0, mv1, mv2, mv4, mv6, mv9, mv10, mv13, mv14, mv15, mv17, mv18, r_getR0, r_getR1, r_getR2, r_getR4, r_getR6, r_getR9, r_getR10, r_getR13, r_getR14, r_getR15, r_getR17, r_getR18, r_getJ, r_putJ W, r_getI3, r_getI5, r_getI7, r_getI8, r_getI11, r_getI16, r_getI19, r_getI20, r_getI21, r_getI22, r_getI23, r_getI24, r_getI25, r_getI26, r_getI27, r_getI28, r_putI3 W, r_putI5 W, r_putI7 W, r_putI8 W, r_putI11 W, r_putI16 W, r_putI19 W, r_putI20 W, r_putI21 W, r_putI22 W, r_putI23 W, r_putI24 W, r_putI25 W, r_putI26 W, r_putI27 W, r_putI28 W, Sum.map_inl, Sum.map_inr, id_eq, eJ19 W, eJ20 W, e_X4_asks W, e_X4_reachable_B17 W, e_X4_spreads W]
def P_X4_zones (h0 : MS) : Option (Int32 × MS) :=

  pb2 (P_X4_spreads h0) fun v3 h2 =>
  pb2 (P_X4_asks v3 h2) fun v6 h5 =>
  if v6 = 0 then (
    some ((0 : Int32), h5)
  ) else (
    Option.bind (pgI h5 16) fun v8 =>
    some (v8, h5)
  )
set_option maxHeartbeats 1000000 in
theorem e_X4_zones {m : Nat} {ad : Nat → Nat} {h : HH} (W : WFM m ad h) (h0 : MS)  : F_X4_zones m (pu m ad h0 h) = Option.map ((fun q => (q.1, pu m ad q.2 h))) (P_X4_zones h0) := by
  unfold F_X4_zones P_X4_zones
  simp only [bind_pu, b2_pu, bind_map9, map_bind9, map_pb29, map_ite9, map_some9, map_none9, bind_some9, r_isO, r_aldI W, r_astI W, mv0, mv1, mv2, mv4, mv6, mv9, mv10, mv13, mv14, mv15, mv17, mv18, r_getR0, r_getR1, r_getR2, r_getR4, r_getR6, r_getR9, r_getR10, r_getR13, r_getR14, r_getR15, r_getR17, r_getR18, r_getJ, r_putJ W, r_getI3, r_getI5, r_getI7, r_getI8, r_getI11, r_getI16, r_getI19, r_getI20, r_getI21, r_getI22, r_getI23, r_getI24, r_getI25, r_getI26, r_getI27, r_getI28, r_putI3 W, r_putI5 W, r_putI7 W, r_putI8 W, r_putI11 W, r_putI16 W, r_putI19 W, r_putI20 W, r_putI21 W, r_putI22 W, r_putI23 W, r_putI24 W, r_putI25 W, r_putI26 W, r_putI27 W, r_putI28 W, Sum.map_inl, Sum.map_inr, id_eq, eJ19 W, eJ20 W, e_X4_asks W, e_X4_spreads W]
def P_X4_asksZones (a1 : Int32) (h0 : MS) : Option (Int32 × MS) :=

  pb2 (P_X4_asks (F_X4_isHarbour a1) h0) fun v3 h2 =>
  if v3 = 0 then (
    some ((0 : Int32), h2)
  ) else (
    pb2 (P_X4_spreads h2) fun v7 h6 =>
    Option.bind (piI h6 8 (if v7 = 0 then (2 : Int32) else (0 : Int32))) fun h9 =>
    Option.bind (pgI h9 8) fun v10 =>
    some ((if v10 = 0 then (1 : Int32) else (0 : Int32)), h9)
  )
set_option maxHeartbeats 1000000 in
theorem e_X4_asksZones {m : Nat} {ad : Nat → Nat} {h : HH} (W : WFM m ad h) (a1 : Int32) (h0 : MS)  : F_X4_asksZones m a1 (pu m ad h0 h) = Option.map ((fun q => (q.1, pu m ad q.2 h))) (P_X4_asksZones a1 h0) := by
  unfold F_X4_asksZones P_X4_asksZones
  simp only [bind_pu, b2_pu, bind_map9, map_bind9, map_pb29, map_ite9, map_some9, map_none9, bind_some9, r_isO, r_aldI W, r_astI W, mv0, mv1, mv2, mv4, mv6, mv9, mv10, mv13, mv14, mv15, mv17, mv18, r_getR0, r_getR1, r_getR2, r_getR4, r_getR6, r_getR9, r_getR10, r_getR13, r_getR14, r_getR15, r_getR17, r_getR18, r_getJ, r_putJ W, r_getI3, r_getI5, r_getI7, r_getI8, r_getI11, r_getI16, r_getI19, r_getI20, r_getI21, r_getI22, r_getI23, r_getI24, r_getI25, r_getI26, r_getI27, r_getI28, r_putI3 W, r_putI5 W, r_putI7 W, r_putI8 W, r_putI11 W, r_putI16 W, r_putI19 W, r_putI20 W, r_putI21 W, r_putI22 W, r_putI23 W, r_putI24 W, r_putI25 W, r_putI26 W, r_putI27 W, r_putI28 W, Sum.map_inl, Sum.map_inr, id_eq, eJ19 W, eJ20 W, e_X4_asks W, e_X4_spreads W]
def P_X4_zonesOf_B14 (a1 : Int32) (x2_5 : Int32) (x3_5 : Int32) (h2 : MS) : Option ((Int32 × Int32) ⊕ Int32) :=
  Option.bind (pgI h2 16) fun v6 =>
  if v6 ≤ x3_5 then (
    some (.inr x2_5)
  ) else (
    Option.bind (rd h2 14 x3_5) fun v9 =>
    some (.inl ((x2_5 + (if v9 = a1 then (1 : Int32) else (0 : Int32))), (x3_5 + (1 : Int32))))
  )
set_option maxHeartbeats 1000000 in
theorem e_X4_zonesOf_B14 {m : Nat} {ad : Nat → Nat} {h : HH} (W : WFM m ad h) (a1 : Int32) (x2_5 : Int32) (x3_5 : Int32) (h2 : MS)  : F_X4_zonesOf_B14 m a1 x2_5 x3_5 (pu m ad h2 h) = P_X4_zonesOf_B14 a1 x2_5 x3_5 h2 := by
  unfold F_X4_zonesOf_B14 P_X4_zonesOf_B14
  simp only [bind_pu, b2_pu, bind_map9, map_bind9, map_pb29, map_ite9, map_some9, map_none9, bind_some9, r_isO, r_aldI W, r_astI W, mv0, mv1, mv2, mv4, mv6, mv9, mv10, mv13, mv14, mv15, mv17, mv18, r_getR0, r_getR1, r_getR2, r_getR4, r_getR6, r_getR9, r_getR10, r_getR13, r_getR14, r_getR15, r_getR17, r_getR18, r_getJ, r_putJ W, r_getI3, r_getI5, r_getI7, r_getI8, r_getI11, r_getI16, r_getI19, r_getI20, r_getI21, r_getI22, r_getI23, r_getI24, r_getI25, r_getI26, r_getI27, r_getI28, r_putI3 W, r_putI5 W, r_putI7 W, r_putI8 W, r_putI11 W, r_putI16 W, r_putI19 W, r_putI20 W, r_putI21 W, r_putI22 W, r_putI23 W, r_putI24 W, r_putI25 W, r_putI26 W, r_putI27 W, r_putI28 W, Sum.map_inl, Sum.map_inr, id_eq, eJ19 W, eJ20 W]
def P_X4_zonesOf (a1 : Int32) (h0 : MS) : Option (Int32 × MS) :=

  pb2 (P_X4_asksZones a1 h0) fun v3 h2 =>
  if v3 = 0 then (
    some ((0 : Int32), h2)
  ) else (
    Option.bind (lp (fun z => P_X4_zonesOf_B14 a1 z.1 z.2 h2) 100000 ((0 : Int32), (0 : Int32))) fun v11 =>
    some (v11, h2)
  )
set_option maxHeartbeats 1000000 in
theorem e_X4_zonesOf {m : Nat} {ad : Nat → Nat} {h : HH} (W : WFM m ad h) (a1 : Int32) (h0 : MS)  : F_X4_zonesOf m a1 (pu m ad h0 h) = Option.map ((fun q => (q.1, pu m ad q.2 h))) (P_X4_zonesOf a1 h0) := by
  unfold F_X4_zonesOf P_X4_zonesOf
  simp only [bind_pu, b2_pu, bind_map9, map_bind9, map_pb29, map_ite9, map_some9, map_none9, bind_some9, r_isO, r_aldI W, r_astI W, mv0, mv1, mv2, mv4, mv6, mv9, mv10, mv13, mv14, mv15, mv17, mv18, r_getR0, r_getR1, r_getR2, r_getR4, r_getR6, r_getR9, r_getR10, r_getR13, r_getR14, r_getR15, r_getR17, r_getR18, r_getJ, r_putJ W, r_getI3, r_getI5, r_getI7, r_getI8, r_getI11, r_getI16, r_getI19, r_getI20, r_getI21, r_getI22, r_getI23, r_getI24, r_getI25, r_getI26, r_getI27, r_getI28, r_putI3 W, r_putI5 W, r_putI7 W, r_putI8 W, r_putI11 W, r_putI16 W, r_putI19 W, r_putI20 W, r_putI21 W, r_putI22 W, r_putI23 W, r_putI24 W, r_putI25 W, r_putI26 W, r_putI27 W, r_putI28 W, Sum.map_inl, Sum.map_inr, id_eq, eJ19 W, eJ20 W, e_X4_asksZones W, e_X4_zonesOf_B14 W]
def P_X4_fewestLines_B15 (a1 : Int32) (x2_5 : Int32) (x3_5 : Int32) (h2 : MS) : Option ((Int32 × Int32) ⊕ Int32) :=
  Option.bind (pgI h2 16) fun v6 =>
  if v6 ≤ x3_5 then (
    some (.inr x2_5)
  ) else (
    Option.bind (rd h2 14 x3_5) fun v9 =>
    if v9 = a1 then (
      Option.bind (rd h2 15 x3_5) fun v12 =>
      some (.inl ((F_X4_less x2_5 v12), (x3_5 + (1 : Int32))))
    ) else (
      some (.inl (x2_5, (x3_5 + (1 : Int32))))
    )
  )
set_option maxHeartbeats 1000000 in
theorem e_X4_fewestLines_B15 {m : Nat} {ad : Nat → Nat} {h : HH} (W : WFM m ad h) (a1 : Int32) (x2_5 : Int32) (x3_5 : Int32) (h2 : MS)  : F_X4_fewestLines_B15 m a1 x2_5 x3_5 (pu m ad h2 h) = P_X4_fewestLines_B15 a1 x2_5 x3_5 h2 := by
  unfold F_X4_fewestLines_B15 P_X4_fewestLines_B15
  simp only [bind_pu, b2_pu, bind_map9, map_bind9, map_pb29, map_ite9, map_some9, map_none9, bind_some9, r_isO, r_aldI W, r_astI W, mv0, mv1, mv2, mv4, mv6, mv9, mv10, mv13, mv14, mv15, mv17, mv18, r_getR0, r_getR1, r_getR2, r_getR4, r_getR6, r_getR9, r_getR10, r_getR13, r_getR14, r_getR15, r_getR17, r_getR18, r_getJ, r_putJ W, r_getI3, r_getI5, r_getI7, r_getI8, r_getI11, r_getI16, r_getI19, r_getI20, r_getI21, r_getI22, r_getI23, r_getI24, r_getI25, r_getI26, r_getI27, r_getI28, r_putI3 W, r_putI5 W, r_putI7 W, r_putI8 W, r_putI11 W, r_putI16 W, r_putI19 W, r_putI20 W, r_putI21 W, r_putI22 W, r_putI23 W, r_putI24 W, r_putI25 W, r_putI26 W, r_putI27 W, r_putI28 W, Sum.map_inl, Sum.map_inr, id_eq, eJ19 W, eJ20 W]
def P_X4_fewestLines (a1 : Int32) (h0 : MS) : Option (Int32 × MS) :=

  pb2 (P_X4_asksZones a1 h0) fun v3 h2 =>
  if v3 = 0 then (
    some ((0 : Int32), h2)
  ) else (
    Option.bind (lp (fun z => P_X4_fewestLines_B15 a1 z.1 z.2 h2) 100000 ((100000 : Int32), (0 : Int32))) fun v13 =>
    if (100000 : Int32) ≤ v13 then (
      pb2 (P_X4_fails (2 : Int32) h2) fun v17 h16 =>
      some (v17, h16)
    ) else (
      some (v13, h2)
    )
  )
set_option maxHeartbeats 1000000 in
theorem e_X4_fewestLines {m : Nat} {ad : Nat → Nat} {h : HH} (W : WFM m ad h) (a1 : Int32) (h0 : MS)  : F_X4_fewestLines m a1 (pu m ad h0 h) = Option.map ((fun q => (q.1, pu m ad q.2 h))) (P_X4_fewestLines a1 h0) := by
  unfold F_X4_fewestLines P_X4_fewestLines
  simp only [bind_pu, b2_pu, bind_map9, map_bind9, map_pb29, map_ite9, map_some9, map_none9, bind_some9, r_isO, r_aldI W, r_astI W, mv0, mv1, mv2, mv4, mv6, mv9, mv10, mv13, mv14, mv15, mv17, mv18, r_getR0, r_getR1, r_getR2, r_getR4, r_getR6, r_getR9, r_getR10, r_getR13, r_getR14, r_getR15, r_getR17, r_getR18, r_getJ, r_putJ W, r_getI3, r_getI5, r_getI7, r_getI8, r_getI11, r_getI16, r_getI19, r_getI20, r_getI21, r_getI22, r_getI23, r_getI24, r_getI25, r_getI26, r_getI27, r_getI28, r_putI3 W, r_putI5 W, r_putI7 W, r_putI8 W, r_putI11 W, r_putI16 W, r_putI19 W, r_putI20 W, r_putI21 W, r_putI22 W, r_putI23 W, r_putI24 W, r_putI25 W, r_putI26 W, r_putI27 W, r_putI28 W, Sum.map_inl, Sum.map_inr, id_eq, eJ19 W, eJ20 W, e_X4_asksZones W, e_X4_fails W, e_X4_fewestLines_B15 W]
def P_X4_behind_T46 (a1 : Int32) (a2 : Int32) (a3 : Int32) (t4_46 : Int32) (h0 : MS) : Option Int32 :=

  Option.bind (P_X4_line a2 (8 : Int32) h0) fun v7 =>
  Option.bind (P_X4_line a2 (1 : Int32) h0) fun v10 =>
  Option.bind (P_X4_stay v10 a3 h0) fun v12 =>
  some (if v12 = (10 : Int32) then (if ((v7 >>> (a3 &&& 31)) &&& (1 : Int32)) = (1 : Int32) then (0 : Int32) else t4_46) else (if (if ((v7 >>> (a3 &&& 31)) &&& (1 : Int32)) = (1 : Int32) then (0 : Int32) else t4_46) ≤ v12 then (if ((v7 >>> (a3 &&& 31)) &&& (1 : Int32)) = (1 : Int32) then (0 : Int32) else t4_46) else (-1 : Int32)))
set_option maxHeartbeats 1000000 in
theorem e_X4_behind_T46 {m : Nat} {ad : Nat → Nat} {h : HH} (W : WFM m ad h) (a1 : Int32) (a2 : Int32) (a3 : Int32) (t4_46 : Int32) (h0 : MS)  : F_X4_behind_T46 m a1 a2 a3 t4_46 (pu m ad h0 h) = P_X4_behind_T46 a1 a2 a3 t4_46 h0 := by
  unfold F_X4_behind_T46 P_X4_behind_T46
  simp only [bind_pu, b2_pu, bind_map9, map_bind9, map_pb29, map_ite9, map_some9, map_none9, bind_some9, r_isO, r_aldI W, r_astI W, mv0, mv1, mv2, mv4, mv6, mv9, mv10, mv13, mv14, mv15, mv17, mv18, r_getR0, r_getR1, r_getR2, r_getR4, r_getR6, r_getR9, r_getR10, r_getR13, r_getR14, r_getR15, r_getR17, r_getR18, r_getJ, r_putJ W, r_getI3, r_getI5, r_getI7, r_getI8, r_getI11, r_getI16, r_getI19, r_getI20, r_getI21, r_getI22, r_getI23, r_getI24, r_getI25, r_getI26, r_getI27, r_getI28, r_putI3 W, r_putI5 W, r_putI7 W, r_putI8 W, r_putI11 W, r_putI16 W, r_putI19 W, r_putI20 W, r_putI21 W, r_putI22 W, r_putI23 W, r_putI24 W, r_putI25 W, r_putI26 W, r_putI27 W, r_putI28 W, Sum.map_inl, Sum.map_inr, id_eq, eJ19 W, eJ20 W, e_X4_line W, e_X4_stay W]
def P_X4_behind (a1 : Int32) (a2 : Int32) (a3 : Int32) (h0 : MS) : Option Int32 :=

  Option.bind (P_X4_line a2 ((5 : Int32) + a3) h0) fun v2 =>
  Option.bind (P_X4_line a2 ((2 : Int32) + a3) h0) fun v4 =>
  if (F_X4_clockAt a1 a3) < v4 then (
    some (-1 : Int32)
  ) else (
    if v2 = (10 : Int32) then (
      P_X4_behind_T46 a1 a2 a3 (F_X4_clockAt a1 a3) h0
    ) else (
      if (F_X4_clockAt a1 a3) ≤ v2 then (
        P_X4_behind_T46 a1 a2 a3 (F_X4_clockAt a1 a3) h0
      ) else (
        some (-1 : Int32)
      )
    )
  )
set_option maxHeartbeats 1000000 in
theorem e_X4_behind {m : Nat} {ad : Nat → Nat} {h : HH} (W : WFM m ad h) (a1 : Int32) (a2 : Int32) (a3 : Int32) (h0 : MS)  : F_X4_behind m a1 a2 a3 (pu m ad h0 h) = P_X4_behind a1 a2 a3 h0 := by
  unfold F_X4_behind P_X4_behind
  simp only [bind_pu, b2_pu, bind_map9, map_bind9, map_pb29, map_ite9, map_some9, map_none9, bind_some9, r_isO, r_aldI W, r_astI W, mv0, mv1, mv2, mv4, mv6, mv9, mv10, mv13, mv14, mv15, mv17, mv18, r_getR0, r_getR1, r_getR2, r_getR4, r_getR6, r_getR9, r_getR10, r_getR13, r_getR14, r_getR15, r_getR17, r_getR18, r_getJ, r_putJ W, r_getI3, r_getI5, r_getI7, r_getI8, r_getI11, r_getI16, r_getI19, r_getI20, r_getI21, r_getI22, r_getI23, r_getI24, r_getI25, r_getI26, r_getI27, r_getI28, r_putI3 W, r_putI5 W, r_putI7 W, r_putI8 W, r_putI11 W, r_putI16 W, r_putI19 W, r_putI20 W, r_putI21 W, r_putI22 W, r_putI23 W, r_putI24 W, r_putI25 W, r_putI26 W, r_putI27 W, r_putI28 W, Sum.map_inl, Sum.map_inr, id_eq, eJ19 W, eJ20 W, e_X4_behind_T46 W, e_X4_line W]
def P_X4_carried (a1 : Int32) (a2 : Int32) (h0 : MS) : Option Int32 :=

  Option.bind (P_X4_behind a1 a2 (0 : Int32) h0) fun v2 =>
  Option.bind (P_X4_behind a1 a2 (1 : Int32) h0) fun v4 =>
  Option.bind (P_X4_behind a1 a2 (2 : Int32) h0) fun v6 =>
  Option.bind (P_X4_line a2 (0 : Int32) h0) fun v8 =>
  if (if v8 = (a1 / (1331 : Int32)) then (if v2 < 0 then (0 : Int32) else (if v4 < 0 then (0 : Int32) else (if v6 < 0 then (0 : Int32) else (1 : Int32)))) else (0 : Int32)) = 0 then (
    some (-1 : Int32)
  ) else (
    Option.bind (P_X4_line a2 (1 : Int32) h0) fun v15 =>
    some (F_X4_momentAt v15 v2 v4 v6)
  )
set_option maxHeartbeats 1000000 in
theorem e_X4_carried {m : Nat} {ad : Nat → Nat} {h : HH} (W : WFM m ad h) (a1 : Int32) (a2 : Int32) (h0 : MS)  : F_X4_carried m a1 a2 (pu m ad h0 h) = P_X4_carried a1 a2 h0 := by
  unfold F_X4_carried P_X4_carried
  simp only [bind_pu, b2_pu, bind_map9, map_bind9, map_pb29, map_ite9, map_some9, map_none9, bind_some9, r_isO, r_aldI W, r_astI W, mv0, mv1, mv2, mv4, mv6, mv9, mv10, mv13, mv14, mv15, mv17, mv18, r_getR0, r_getR1, r_getR2, r_getR4, r_getR6, r_getR9, r_getR10, r_getR13, r_getR14, r_getR15, r_getR17, r_getR18, r_getJ, r_putJ W, r_getI3, r_getI5, r_getI7, r_getI8, r_getI11, r_getI16, r_getI19, r_getI20, r_getI21, r_getI22, r_getI23, r_getI24, r_getI25, r_getI26, r_getI27, r_getI28, r_putI3 W, r_putI5 W, r_putI7 W, r_putI8 W, r_putI11 W, r_putI16 W, r_putI19 W, r_putI20 W, r_putI21 W, r_putI22 W, r_putI23 W, r_putI24 W, r_putI25 W, r_putI26 W, r_putI27 W, r_putI28 W, Sum.map_inl, Sum.map_inr, id_eq, eJ19 W, eJ20 W, e_X4_behind W, e_X4_line W]
def P_X4_comes (a1 : Int32) (a2 : Int32) (h0 : MS) : Option MS :=
  if a1 < 0 then (
    some h0
  ) else (
    Option.bind (rd h0 17 a1) fun v3 =>
    if v3 = (100000 : Int32) then (
      Option.bind (wr h0 17 a1 a2) fun h6 =>
      Option.bind (pgI h6 19) fun v8 =>
      Option.bind (wr h6 18 v8 a1) fun h9 =>
      Option.bind (pgI h9 19) fun v10 =>
      Option.bind (piI h9 19 (v10 + (1 : Int32))) fun h11 =>
      some h11
    ) else (
      some h0
    )
  )
set_option maxHeartbeats 1000000 in
theorem e_X4_comes {m : Nat} {ad : Nat → Nat} {h : HH} (W : WFM m ad h) (a1 : Int32) (a2 : Int32) (h0 : MS)  : F_X4_comes m a1 a2 (pu m ad h0 h) = Option.map ((fun S => pu m ad S h)) (P_X4_comes a1 a2 h0) := by
  unfold F_X4_comes P_X4_comes
  simp only [bind_pu, b2_pu, bind_map9, map_bind9, map_pb29, map_ite9, map_some9, map_none9, bind_some9, r_isO, r_aldI W, r_astI W, mv0, mv1, mv2, mv4, mv6, mv9, mv10, mv13, mv14, mv15, mv17, mv18, r_getR0, r_getR1, r_getR2, r_getR4, r_getR6, r_getR9, r_getR10, r_getR13, r_getR14, r_getR15, r_getR17, r_getR18, r_getJ, r_putJ W, r_getI3, r_getI5, r_getI7, r_getI8, r_getI11, r_getI16, r_getI19, r_getI20, r_getI21, r_getI22, r_getI23, r_getI24, r_getI25, r_getI26, r_getI27, r_getI28, r_putI3 W, r_putI5 W, r_putI7 W, r_putI8 W, r_putI11 W, r_putI16 W, r_putI19 W, r_putI20 W, r_putI21 W, r_putI22 W, r_putI23 W, r_putI24 W, r_putI25 W, r_putI26 W, r_putI27 W, r_putI28 W, Sum.map_inl, Sum.map_inr, id_eq, eJ19 W, eJ20 W]
def P_X4_ticked_B11 (a1 : Int32) (k2_1 : Int32) (x3_1 : Int32) (x4_1 : Int32) (h0 : MS) : Option ((Int32 × Int32) ⊕ Int32) :=
  if (3 : Int32) ≤ x4_1 then (
    some (.inr x3_1)
  ) else (
    if x3_1 = 0 then (
      some (.inl ((0 : Int32), (x4_1 + (1 : Int32))))
    ) else (
      Option.bind (P_X4_stay k2_1 x4_1 h0) fun v5 =>
      if v5 = (10 : Int32) then (
        some (.inl ((1 : Int32), (x4_1 + (1 : Int32))))
      ) else (
        Option.bind (P_X4_stay k2_1 x4_1 h0) fun v8 =>
        some (.inl ((if v8 < ((F_X4_clockAt a1 x4_1) + (1 : Int32)) then (0 : Int32) else (1 : Int32)), (x4_1 + (1 : Int32))))
      )
    )
  )
set_option maxHeartbeats 1000000 in
theorem e_X4_ticked_B11 {m : Nat} {ad : Nat → Nat} {h : HH} (W : WFM m ad h) (a1 : Int32) (k2_1 : Int32) (x3_1 : Int32) (x4_1 : Int32) (h0 : MS)  : F_X4_ticked_B11 m a1 k2_1 x3_1 x4_1 (pu m ad h0 h) = P_X4_ticked_B11 a1 k2_1 x3_1 x4_1 h0 := by
  unfold F_X4_ticked_B11 P_X4_ticked_B11
  simp only [bind_pu, b2_pu, bind_map9, map_bind9, map_pb29, map_ite9, map_some9, map_none9, bind_some9, r_isO, r_aldI W, r_astI W, mv0, mv1, mv2, mv4, mv6, mv9, mv10, mv13, mv14, mv15, mv17, mv18, r_getR0, r_getR1, r_getR2, r_getR4, r_getR6, r_getR9, r_getR10, r_getR13, r_getR14, r_getR15, r_getR17, r_getR18, r_getJ, r_putJ W, r_getI3, r_getI5, r_getI7, r_getI8, r_getI11, r_getI16, r_getI19, r_getI20, r_getI21, r_getI22, r_getI23, r_getI24, r_getI25, r_getI26, r_getI27, r_getI28, r_putI3 W, r_putI5 W, r_putI7 W, r_putI8 W, r_putI11 W, r_putI16 W, r_putI19 W, r_putI20 W, r_putI21 W, r_putI22 W, r_putI23 W, r_putI24 W, r_putI25 W, r_putI26 W, r_putI27 W, r_putI28 W, Sum.map_inl, Sum.map_inr, id_eq, eJ19 W, eJ20 W, e_X4_stay W]
def P_X4_ticked (a1 : Int32) (h0 : MS) : Option Int32 :=
  Option.bind (lp (fun z => P_X4_ticked_B11 a1 (a1 / (1331 : Int32)) z.1 z.2 h0) 100000 ((1 : Int32), (0 : Int32))) fun v10 =>
  some (if v10 = 0 then (-1 : Int32) else (F_X4_momentAt (a1 / (1331 : Int32)) (F_X4_less (10 : Int32) ((F_X4_clockAt a1 (0 : Int32)) + (1 : Int32))) (F_X4_less (10 : Int32) ((F_X4_clockAt a1 (1 : Int32)) + (1 : Int32))) (F_X4_less (10 : Int32) ((F_X4_clockAt a1 (2 : Int32)) + (1 : Int32)))))
set_option maxHeartbeats 1000000 in
theorem e_X4_ticked {m : Nat} {ad : Nat → Nat} {h : HH} (W : WFM m ad h) (a1 : Int32) (h0 : MS)  : F_X4_ticked m a1 (pu m ad h0 h) = P_X4_ticked a1 h0 := by
  unfold F_X4_ticked P_X4_ticked
  simp only [bind_pu, b2_pu, bind_map9, map_bind9, map_pb29, map_ite9, map_some9, map_none9, bind_some9, r_isO, r_aldI W, r_astI W, mv0, mv1, mv2, mv4, mv6, mv9, mv10, mv13, mv14, mv15, mv17, mv18, r_getR0, r_getR1, r_getR2, r_getR4, r_getR6, r_getR9, r_getR10, r_getR13, r_getR14, r_getR15, r_getR17, r_getR18, r_getJ, r_putJ W, r_getI3, r_getI5, r_getI7, r_getI8, r_getI11, r_getI16, r_getI19, r_getI20, r_getI21, r_getI22, r_getI23, r_getI24, r_getI25, r_getI26, r_getI27, r_getI28, r_putI3 W, r_putI5 W, r_putI7 W, r_putI8 W, r_putI11 W, r_putI16 W, r_putI19 W, r_putI20 W, r_putI21 W, r_putI22 W, r_putI23 W, r_putI24 W, r_putI25 W, r_putI26 W, r_putI27 W, r_putI28 W, Sum.map_inl, Sum.map_inr, id_eq, eJ19 W, eJ20 W, e_X4_ticked_B11 W]
def P_X4_rides_B2 (x1_1 : Int32) (h_1 : MS) : Option ((Int32 × MS) ⊕ MS) :=
  if (7986 : Int32) ≤ x1_1 then (
    some (.inr h_1)
  ) else (
    Option.bind (wr h_1 17 x1_1 (100000 : Int32)) fun h4 =>
    some (.inl ((x1_1 + (1 : Int32)), h4))
  )
set_option maxHeartbeats 1000000 in
theorem e_X4_rides_B2 {m : Nat} {ad : Nat → Nat} {h : HH} (W : WFM m ad h) (x1_1 : Int32) (h_1 : MS)  : F_X4_rides_B2 m x1_1 (pu m ad h_1 h) = Option.map (Sum.map (fun q => (q.1, pu m ad q.2 h)) (fun S => pu m ad S h)) (P_X4_rides_B2 x1_1 h_1) := by
  unfold F_X4_rides_B2 P_X4_rides_B2
  simp only [bind_pu, b2_pu, bind_map9, map_bind9, map_pb29, map_ite9, map_some9, map_none9, bind_some9, r_isO, r_aldI W, r_astI W, mv0, mv1, mv2, mv4, mv6, mv9, mv10, mv13, mv14, mv15, mv17, mv18, r_getR0, r_getR1, r_getR2, r_getR4, r_getR6, r_getR9, r_getR10, r_getR13, r_getR14, r_getR15, r_getR17, r_getR18, r_getJ, r_putJ W, r_getI3, r_getI5, r_getI7, r_getI8, r_getI11, r_getI16, r_getI19, r_getI20, r_getI21, r_getI22, r_getI23, r_getI24, r_getI25, r_getI26, r_getI27, r_getI28, r_putI3 W, r_putI5 W, r_putI7 W, r_putI8 W, r_putI11 W, r_putI16 W, r_putI19 W, r_putI20 W, r_putI21 W, r_putI22 W, r_putI23 W, r_putI24 W, r_putI25 W, r_putI26 W, r_putI27 W, r_putI28 W, Sum.map_inl, Sum.map_inr, id_eq, eJ19 W, eJ20 W]
theorem l_X4_rides_B2 {m : Nat} {ad : Nat → Nat} {h : HH} (W : WFM m ad h)   (n : Nat) (x1_1 : Int32) (h_1 : MS) : lp (fun z => F_X4_rides_B2 m z.1 z.2) n (x1_1, pu m ad h_1 h) = Option.map (fun S => pu m ad S h) (lp (fun z => P_X4_rides_B2  z.1 z.2) n (x1_1, h_1)) := by
  have := lp_map9 (B := fun z => F_X4_rides_B2 m z.1 z.2) (B' := fun z => P_X4_rides_B2  z.1 z.2) (fun q => (q.1, pu m ad q.2 h)) (fun S => pu m ad S h) (fun z => e_X4_rides_B2 W  z.1 z.2 ) n (x1_1, h_1)
  exact this
def P_X4_rides_B64 (x1_9 : Int32) (x2_9 : Int32) (x2_12 : Int32) (k3_17 : Int32) (x4_17 : Int32) (h_17 : MS) : Option ((Int32 × MS) ⊕ MS) :=

  Option.bind (rd h_17 0 (102 : Int32)) fun v19 =>
  if v19 ≤ x4_17 then (
    some (.inr h_17)
  ) else (
    Option.bind (P_X4_carried k3_17 x4_17 h_17) fun v22 =>
    Option.bind (rd h_17 17 k3_17) fun v24 =>
    Option.bind (P_X4_comes v22 v24 h_17) fun h26 =>
    some (.inl ((x4_17 + (1 : Int32)), h26))
  )
set_option maxHeartbeats 1000000 in
theorem e_X4_rides_B64 {m : Nat} {ad : Nat → Nat} {h : HH} (W : WFM m ad h) (x1_9 : Int32) (x2_9 : Int32) (x2_12 : Int32) (k3_17 : Int32) (x4_17 : Int32) (h_17 : MS)  : F_X4_rides_B64 m x1_9 x2_9 x2_12 k3_17 x4_17 (pu m ad h_17 h) = Option.map (Sum.map (fun q => (q.1, pu m ad q.2 h)) (fun S => pu m ad S h)) (P_X4_rides_B64 x1_9 x2_9 x2_12 k3_17 x4_17 h_17) := by
  unfold F_X4_rides_B64 P_X4_rides_B64
  simp only [bind_pu, b2_pu, bind_map9, map_bind9, map_pb29, map_ite9, map_some9, map_none9, bind_some9, r_isO, r_aldI W, r_astI W, mv0, mv1, mv2, mv4, mv6, mv9, mv10, mv13, mv14, mv15, mv17, mv18, r_getR0, r_getR1, r_getR2, r_getR4, r_getR6, r_getR9, r_getR10, r_getR13, r_getR14, r_getR15, r_getR17, r_getR18, r_getJ, r_putJ W, r_getI3, r_getI5, r_getI7, r_getI8, r_getI11, r_getI16, r_getI19, r_getI20, r_getI21, r_getI22, r_getI23, r_getI24, r_getI25, r_getI26, r_getI27, r_getI28, r_putI3 W, r_putI5 W, r_putI7 W, r_putI8 W, r_putI11 W, r_putI16 W, r_putI19 W, r_putI20 W, r_putI21 W, r_putI22 W, r_putI23 W, r_putI24 W, r_putI25 W, r_putI26 W, r_putI27 W, r_putI28 W, Sum.map_inl, Sum.map_inr, id_eq, eJ19 W, eJ20 W, e_X4_carried W, e_X4_comes W]
theorem l_X4_rides_B64 {m : Nat} {ad : Nat → Nat} {h : HH} (W : WFM m ad h) (x1_9 : Int32) (x2_9 : Int32) (x2_12 : Int32) (k3_17 : Int32)  (n : Nat) (x4_17 : Int32) (h_17 : MS) : lp (fun z => F_X4_rides_B64 m x1_9 x2_9 x2_12 k3_17 z.1 z.2) n (x4_17, pu m ad h_17 h) = Option.map (fun S => pu m ad S h) (lp (fun z => P_X4_rides_B64 x1_9 x2_9 x2_12 k3_17 z.1 z.2) n (x4_17, h_17)) := by
  have := lp_map9 (B := fun z => F_X4_rides_B64 m x1_9 x2_9 x2_12 k3_17 z.1 z.2) (B' := fun z => P_X4_rides_B64 x1_9 x2_9 x2_12 k3_17 z.1 z.2) (fun q => (q.1, pu m ad q.2 h)) (fun S => pu m ad S h) (fun z => e_X4_rides_B64 W x1_9 x2_9 x2_12 k3_17 z.1 z.2 ) n (x4_17, h_17)
  exact this
def P_X4_rides_B46 (x1_9 : Int32) (x2_9 : Int32) (x2_12 : Int32) (h_12 : MS) : Option ((Int32 × MS) ⊕ (Int32 × MS)) :=
  Option.bind (pgI h_12 19) fun v13 =>
  if v13 ≤ x2_12 then (
    some (.inr (x2_12, h_12))
  ) else (
    Option.bind (rd h_12 18 x2_12) fun v16 =>
    Option.bind (lp (fun z => P_X4_rides_B64 x1_9 x2_9 x2_12 v16 z.1 z.2) 100000 ((0 : Int32), h_12)) fun h27 =>
    some (.inl ((x2_12 + (1 : Int32)), h27))
  )
set_option maxHeartbeats 1000000 in
theorem e_X4_rides_B46 {m : Nat} {ad : Nat → Nat} {h : HH} (W : WFM m ad h) (x1_9 : Int32) (x2_9 : Int32) (x2_12 : Int32) (h_12 : MS)  : F_X4_rides_B46 m x1_9 x2_9 x2_12 (pu m ad h_12 h) = Option.map (Sum.map (fun q => (q.1, pu m ad q.2 h)) (fun q => (q.1, pu m ad q.2 h))) (P_X4_rides_B46 x1_9 x2_9 x2_12 h_12) := by
  unfold F_X4_rides_B46 P_X4_rides_B46
  simp only [bind_pu, b2_pu, bind_map9, map_bind9, map_pb29, map_ite9, map_some9, map_none9, bind_some9, r_isO, r_aldI W, r_astI W, mv0, mv1, mv2, mv4, mv6, mv9, mv10, mv13, mv14, mv15, mv17, mv18, r_getR0, r_getR1, r_getR2, r_getR4, r_getR6, r_getR9, r_getR10, r_getR13, r_getR14, r_getR15, r_getR17, r_getR18, r_getJ, r_putJ W, r_getI3, r_getI5, r_getI7, r_getI8, r_getI11, r_getI16, r_getI19, r_getI20, r_getI21, r_getI22, r_getI23, r_getI24, r_getI25, r_getI26, r_getI27, r_getI28, r_putI3 W, r_putI5 W, r_putI7 W, r_putI8 W, r_putI11 W, r_putI16 W, r_putI19 W, r_putI20 W, r_putI21 W, r_putI22 W, r_putI23 W, r_putI24 W, r_putI25 W, r_putI26 W, r_putI27 W, r_putI28 W, Sum.map_inl, Sum.map_inr, id_eq, eJ19 W, eJ20 W, l_X4_rides_B64 W]
theorem l_X4_rides_B46 {m : Nat} {ad : Nat → Nat} {h : HH} (W : WFM m ad h) (x1_9 : Int32) (x2_9 : Int32)  (n : Nat) (x2_12 : Int32) (h_12 : MS) : lp (fun z => F_X4_rides_B46 m x1_9 x2_9 z.1 z.2) n (x2_12, pu m ad h_12 h) = Option.map (fun q => (q.1, pu m ad q.2 h)) (lp (fun z => P_X4_rides_B46 x1_9 x2_9 z.1 z.2) n (x2_12, h_12)) := by
  have := lp_map9 (B := fun z => F_X4_rides_B46 m x1_9 x2_9 z.1 z.2) (B' := fun z => P_X4_rides_B46 x1_9 x2_9 z.1 z.2) (fun q => (q.1, pu m ad q.2 h)) (fun q => (q.1, pu m ad q.2 h)) (fun z => e_X4_rides_B46 W x1_9 x2_9 z.1 z.2 ) n (x2_12, h_12)
  exact this
def P_X4_rides_B113 (x1_9 : Int32) (x2_9 : Int32) (k2_33 : Int32) (k3_33 : Int32) (x4_33 : Int32) (h_33 : MS) : Option ((Int32 × MS) ⊕ MS) :=
  if k3_33 ≤ x4_33 then (
    some (.inr h_33)
  ) else (
    Option.bind (rd h_33 18 x4_33) fun v36 =>
    Option.bind (P_X4_ticked v36 h_33) fun v38 =>
    Option.bind (rd h_33 18 x4_33) fun v41 =>
    Option.bind (rd h_33 17 v41) fun v42 =>
    Option.bind (P_X4_comes v38 (v42 + (1 : Int32)) h_33) fun h44 =>
    some (.inl ((x4_33 + (1 : Int32)), h44))
  )
set_option maxHeartbeats 1000000 in
theorem e_X4_rides_B113 {m : Nat} {ad : Nat → Nat} {h : HH} (W : WFM m ad h) (x1_9 : Int32) (x2_9 : Int32) (k2_33 : Int32) (k3_33 : Int32) (x4_33 : Int32) (h_33 : MS)  : F_X4_rides_B113 m x1_9 x2_9 k2_33 k3_33 x4_33 (pu m ad h_33 h) = Option.map (Sum.map (fun q => (q.1, pu m ad q.2 h)) (fun S => pu m ad S h)) (P_X4_rides_B113 x1_9 x2_9 k2_33 k3_33 x4_33 h_33) := by
  unfold F_X4_rides_B113 P_X4_rides_B113
  simp only [bind_pu, b2_pu, bind_map9, map_bind9, map_pb29, map_ite9, map_some9, map_none9, bind_some9, r_isO, r_aldI W, r_astI W, mv0, mv1, mv2, mv4, mv6, mv9, mv10, mv13, mv14, mv15, mv17, mv18, r_getR0, r_getR1, r_getR2, r_getR4, r_getR6, r_getR9, r_getR10, r_getR13, r_getR14, r_getR15, r_getR17, r_getR18, r_getJ, r_putJ W, r_getI3, r_getI5, r_getI7, r_getI8, r_getI11, r_getI16, r_getI19, r_getI20, r_getI21, r_getI22, r_getI23, r_getI24, r_getI25, r_getI26, r_getI27, r_getI28, r_putI3 W, r_putI5 W, r_putI7 W, r_putI8 W, r_putI11 W, r_putI16 W, r_putI19 W, r_putI20 W, r_putI21 W, r_putI22 W, r_putI23 W, r_putI24 W, r_putI25 W, r_putI26 W, r_putI27 W, r_putI28 W, Sum.map_inl, Sum.map_inr, id_eq, eJ19 W, eJ20 W, e_X4_comes W, e_X4_ticked W]
theorem l_X4_rides_B113 {m : Nat} {ad : Nat → Nat} {h : HH} (W : WFM m ad h) (x1_9 : Int32) (x2_9 : Int32) (k2_33 : Int32) (k3_33 : Int32)  (n : Nat) (x4_33 : Int32) (h_33 : MS) : lp (fun z => F_X4_rides_B113 m x1_9 x2_9 k2_33 k3_33 z.1 z.2) n (x4_33, pu m ad h_33 h) = Option.map (fun S => pu m ad S h) (lp (fun z => P_X4_rides_B113 x1_9 x2_9 k2_33 k3_33 z.1 z.2) n (x4_33, h_33)) := by
  have := lp_map9 (B := fun z => F_X4_rides_B113 m x1_9 x2_9 k2_33 k3_33 z.1 z.2) (B' := fun z => P_X4_rides_B113 x1_9 x2_9 k2_33 k3_33 z.1 z.2) (fun q => (q.1, pu m ad q.2 h)) (fun S => pu m ad S h) (fun z => e_X4_rides_B113 W x1_9 x2_9 k2_33 k3_33 z.1 z.2 ) n (x4_33, h_33)
  exact this
def P_X4_rides_B38 (x1_9 : Int32) (x2_9 : Int32) (h_9 : MS) : Option ((Int32 × Int32 × MS) ⊕ MS) :=
  Option.bind (pgI h_9 19) fun v10 =>
  if v10 ≤ x1_9 then (
    some (.inr h_9)
  ) else (
    Option.bind (lp (fun z => P_X4_rides_B46 x1_9 x2_9 z.1 z.2) 100000 (x2_9, h_9)) fun q0_9 =>
    Option.bind (pgI q0_9.2 19) fun v32 =>
    Option.bind (lp (fun z => P_X4_rides_B113 x1_9 x2_9 q0_9.1 v32 z.1 z.2) 100000 (x1_9, q0_9.2)) fun h45 =>
    some (.inl (v32, q0_9.1, h45))
  )
set_option maxHeartbeats 1000000 in
theorem e_X4_rides_B38 {m : Nat} {ad : Nat → Nat} {h : HH} (W : WFM m ad h) (x1_9 : Int32) (x2_9 : Int32) (h_9 : MS)  : F_X4_rides_B38 m x1_9 x2_9 (pu m ad h_9 h) = Option.map (Sum.map (fun q => (q.1, q.2.1, pu m ad q.2.2 h)) (fun S => pu m ad S h)) (P_X4_rides_B38 x1_9 x2_9 h_9) := by
  unfold F_X4_rides_B38 P_X4_rides_B38
  simp only [bind_pu, b2_pu, bind_map9, map_bind9, map_pb29, map_ite9, map_some9, map_none9, bind_some9, r_isO, r_aldI W, r_astI W, mv0, mv1, mv2, mv4, mv6, mv9, mv10, mv13, mv14, mv15, mv17, mv18, r_getR0, r_getR1, r_getR2, r_getR4, r_getR6, r_getR9, r_getR10, r_getR13, r_getR14, r_getR15, r_getR17, r_getR18, r_getJ, r_putJ W, r_getI3, r_getI5, r_getI7, r_getI8, r_getI11, r_getI16, r_getI19, r_getI20, r_getI21, r_getI22, r_getI23, r_getI24, r_getI25, r_getI26, r_getI27, r_getI28, r_putI3 W, r_putI5 W, r_putI7 W, r_putI8 W, r_putI11 W, r_putI16 W, r_putI19 W, r_putI20 W, r_putI21 W, r_putI22 W, r_putI23 W, r_putI24 W, r_putI25 W, r_putI26 W, r_putI27 W, r_putI28 W, Sum.map_inl, Sum.map_inr, id_eq, eJ19 W, eJ20 W, l_X4_rides_B113 W, l_X4_rides_B46 W]
theorem l_X4_rides_B38 {m : Nat} {ad : Nat → Nat} {h : HH} (W : WFM m ad h)   (n : Nat) (x1_9 : Int32) (x2_9 : Int32) (h_9 : MS) : lp (fun z => F_X4_rides_B38 m z.1 z.2.1 z.2.2) n (x1_9, x2_9, pu m ad h_9 h) = Option.map (fun S => pu m ad S h) (lp (fun z => P_X4_rides_B38  z.1 z.2.1 z.2.2) n (x1_9, x2_9, h_9)) := by
  have := lp_map9 (B := fun z => F_X4_rides_B38 m z.1 z.2.1 z.2.2) (B' := fun z => P_X4_rides_B38  z.1 z.2.1 z.2.2) (fun q => (q.1, q.2.1, pu m ad q.2.2 h)) (fun S => pu m ad S h) (fun z => e_X4_rides_B38 W  z.1 z.2.1 z.2.2 ) n (x1_9, x2_9, h_9)
  exact this
def P_X4_rides (h0 : MS) : Option MS :=
  Option.bind (lp (fun z => P_X4_rides_B2 z.1 z.2) 100000 ((0 : Int32), h0)) fun h5 =>
  Option.bind (piI h5 19 (0 : Int32)) fun h6 =>
  Option.bind (P_X4_comes (0 : Int32) (0 : Int32) h6) fun h8 =>
  Option.bind (lp (fun z => P_X4_rides_B38 z.1 z.2.1 z.2.2) 100000 ((0 : Int32), (0 : Int32), h8)) fun h50 =>
  some h50
set_option maxHeartbeats 1000000 in
theorem e_X4_rides {m : Nat} {ad : Nat → Nat} {h : HH} (W : WFM m ad h) (h0 : MS)  : F_X4_rides m (pu m ad h0 h) = Option.map ((fun S => pu m ad S h)) (P_X4_rides h0) := by
  unfold F_X4_rides P_X4_rides
  simp only [bind_pu, b2_pu, bind_map9, map_bind9, map_pb29, map_ite9, map_some9, map_none9, bind_some9, r_isO, r_aldI W, r_astI W, mv0, mv1, mv2, mv4, mv6, mv9, mv10, mv13, mv14, mv15, mv17, mv18, r_getR0, r_getR1, r_getR2, r_getR4, r_getR6, r_getR9, r_getR10, r_getR13, r_getR14, r_getR15, r_getR17, r_getR18, r_getJ, r_putJ W, r_getI3, r_getI5, r_getI7, r_getI8, r_getI11, r_getI16, r_getI19, r_getI20, r_getI21, r_getI22, r_getI23, r_getI24, r_getI25, r_getI26, r_getI27, r_getI28, r_putI3 W, r_putI5 W, r_putI7 W, r_putI8 W, r_putI11 W, r_putI16 W, r_putI19 W, r_putI20 W, r_putI21 W, r_putI22 W, r_putI23 W, r_putI24 W, r_putI25 W, r_putI26 W, r_putI27 W, r_putI28 W, Sum.map_inl, Sum.map_inr, id_eq, eJ19 W, eJ20 W, e_X4_comes W, l_X4_rides_B2 W, l_X4_rides_B38 W]
def P_X4_reachableByMoments_B13 (x1_4 : Int32) (x2_4 : Int32) (h3 : MS) : Option ((Int32 × Int32) ⊕ Int32) :=
  Option.bind (pgI h3 19) fun v5 =>
  if v5 ≤ x2_4 then (
    some (.inr x1_4)
  ) else (
    Option.bind (rd h3 18 x2_4) fun v8 =>
    some (.inl ((x1_4 ||| ((1 : Int32) <<< ((v8 / (1331 : Int32)) &&& 31))), (x2_4 + (1 : Int32))))
  )
set_option maxHeartbeats 1000000 in
theorem e_X4_reachableByMoments_B13 {m : Nat} {ad : Nat → Nat} {h : HH} (W : WFM m ad h) (x1_4 : Int32) (x2_4 : Int32) (h3 : MS)  : F_X4_reachableByMoments_B13 m x1_4 x2_4 (pu m ad h3 h) = P_X4_reachableByMoments_B13 x1_4 x2_4 h3 := by
  unfold F_X4_reachableByMoments_B13 P_X4_reachableByMoments_B13
  simp only [bind_pu, b2_pu, bind_map9, map_bind9, map_pb29, map_ite9, map_some9, map_none9, bind_some9, r_isO, r_aldI W, r_astI W, mv0, mv1, mv2, mv4, mv6, mv9, mv10, mv13, mv14, mv15, mv17, mv18, r_getR0, r_getR1, r_getR2, r_getR4, r_getR6, r_getR9, r_getR10, r_getR13, r_getR14, r_getR15, r_getR17, r_getR18, r_getJ, r_putJ W, r_getI3, r_getI5, r_getI7, r_getI8, r_getI11, r_getI16, r_getI19, r_getI20, r_getI21, r_getI22, r_getI23, r_getI24, r_getI25, r_getI26, r_getI27, r_getI28, r_putI3 W, r_putI5 W, r_putI7 W, r_putI8 W, r_putI11 W, r_putI16 W, r_putI19 W, r_putI20 W, r_putI21 W, r_putI22 W, r_putI23 W, r_putI24 W, r_putI25 W, r_putI26 W, r_putI27 W, r_putI28 W, Sum.map_inl, Sum.map_inr, id_eq, eJ19 W, eJ20 W]
def P_X4_reachableByMoments (h0 : MS) : Option (Int32 × MS) :=
  Option.bind (piI h0 8 (0 : Int32)) fun h1 =>
  Option.bind (P_X4_rides h1) fun h3 =>
  Option.bind (lp (fun z => P_X4_reachableByMoments_B13 z.1 z.2 h3) 100000 ((0 : Int32), (0 : Int32))) fun v9 =>
  some (v9, h3)
set_option maxHeartbeats 1000000 in
theorem e_X4_reachableByMoments {m : Nat} {ad : Nat → Nat} {h : HH} (W : WFM m ad h) (h0 : MS)  : F_X4_reachableByMoments m (pu m ad h0 h) = Option.map ((fun q => (q.1, pu m ad q.2 h))) (P_X4_reachableByMoments h0) := by
  unfold F_X4_reachableByMoments P_X4_reachableByMoments
  simp only [bind_pu, b2_pu, bind_map9, map_bind9, map_pb29, map_ite9, map_some9, map_none9, bind_some9, r_isO, r_aldI W, r_astI W, mv0, mv1, mv2, mv4, mv6, mv9, mv10, mv13, mv14, mv15, mv17, mv18, r_getR0, r_getR1, r_getR2, r_getR4, r_getR6, r_getR9, r_getR10, r_getR13, r_getR14, r_getR15, r_getR17, r_getR18, r_getJ, r_putJ W, r_getI3, r_getI5, r_getI7, r_getI8, r_getI11, r_getI16, r_getI19, r_getI20, r_getI21, r_getI22, r_getI23, r_getI24, r_getI25, r_getI26, r_getI27, r_getI28, r_putI3 W, r_putI5 W, r_putI7 W, r_putI8 W, r_putI11 W, r_putI16 W, r_putI19 W, r_putI20 W, r_putI21 W, r_putI22 W, r_putI23 W, r_putI24 W, r_putI25 W, r_putI26 W, r_putI27 W, r_putI28 W, Sum.map_inl, Sum.map_inr, id_eq, eJ19 W, eJ20 W, e_X4_reachableByMoments_B13 W, e_X4_rides W]
def P_X4_fewestTicks_B22 (a1 : Int32) (x2_7 : Int32) (x3_7 : Int32) (h6 : MS) : Option ((Int32 × Int32) ⊕ Int32) :=
  Option.bind (pgI h6 19) fun v8 =>
  if v8 ≤ x3_7 then (
    some (.inr x2_7)
  ) else (
    Option.bind (rd h6 18 x3_7) fun v11 =>
    if (v11 / (1331 : Int32)) = a1 then (
      Option.bind (rd h6 18 x3_7) fun v15 =>
      Option.bind (rd h6 17 v15) fun v16 =>
      some (.inl ((F_X4_less x2_7 v16), (x3_7 + (1 : Int32))))
    ) else (
      some (.inl (x2_7, (x3_7 + (1 : Int32))))
    )
  )
set_option maxHeartbeats 1000000 in
theorem e_X4_fewestTicks_B22 {m : Nat} {ad : Nat → Nat} {h : HH} (W : WFM m ad h) (a1 : Int32) (x2_7 : Int32) (x3_7 : Int32) (h6 : MS)  : F_X4_fewestTicks_B22 m a1 x2_7 x3_7 (pu m ad h6 h) = P_X4_fewestTicks_B22 a1 x2_7 x3_7 h6 := by
  unfold F_X4_fewestTicks_B22 P_X4_fewestTicks_B22
  simp only [bind_pu, b2_pu, bind_map9, map_bind9, map_pb29, map_ite9, map_some9, map_none9, bind_some9, r_isO, r_aldI W, r_astI W, mv0, mv1, mv2, mv4, mv6, mv9, mv10, mv13, mv14, mv15, mv17, mv18, r_getR0, r_getR1, r_getR2, r_getR4, r_getR6, r_getR9, r_getR10, r_getR13, r_getR14, r_getR15, r_getR17, r_getR18, r_getJ, r_putJ W, r_getI3, r_getI5, r_getI7, r_getI8, r_getI11, r_getI16, r_getI19, r_getI20, r_getI21, r_getI22, r_getI23, r_getI24, r_getI25, r_getI26, r_getI27, r_getI28, r_putI3 W, r_putI5 W, r_putI7 W, r_putI8 W, r_putI11 W, r_putI16 W, r_putI19 W, r_putI20 W, r_putI21 W, r_putI22 W, r_putI23 W, r_putI24 W, r_putI25 W, r_putI26 W, r_putI27 W, r_putI28 W, Sum.map_inl, Sum.map_inr, id_eq, eJ19 W, eJ20 W]
def P_X4_fewestTicks (a1 : Int32) (h0 : MS) : Option (Int32 × MS) :=

  pb2 (P_X4_asks (F_X4_isHarbour a1) h0) fun v3 h2 =>
  if v3 = 0 then (
    some ((0 : Int32), h2)
  ) else (
    Option.bind (P_X4_rides h2) fun h6 =>
    Option.bind (lp (fun z => P_X4_fewestTicks_B22 a1 z.1 z.2 h6) 100000 ((100000 : Int32), (0 : Int32))) fun v17 =>
    if (100000 : Int32) ≤ v17 then (
      pb2 (P_X4_fails (2 : Int32) h6) fun v21 h20 =>
      some (v21, h20)
    ) else (
      some (v17, h6)
    )
  )
set_option maxHeartbeats 1000000 in
theorem e_X4_fewestTicks {m : Nat} {ad : Nat → Nat} {h : HH} (W : WFM m ad h) (a1 : Int32) (h0 : MS)  : F_X4_fewestTicks m a1 (pu m ad h0 h) = Option.map ((fun q => (q.1, pu m ad q.2 h))) (P_X4_fewestTicks a1 h0) := by
  unfold F_X4_fewestTicks P_X4_fewestTicks
  simp only [bind_pu, b2_pu, bind_map9, map_bind9, map_pb29, map_ite9, map_some9, map_none9, bind_some9, r_isO, r_aldI W, r_astI W, mv0, mv1, mv2, mv4, mv6, mv9, mv10, mv13, mv14, mv15, mv17, mv18, r_getR0, r_getR1, r_getR2, r_getR4, r_getR6, r_getR9, r_getR10, r_getR13, r_getR14, r_getR15, r_getR17, r_getR18, r_getJ, r_putJ W, r_getI3, r_getI5, r_getI7, r_getI8, r_getI11, r_getI16, r_getI19, r_getI20, r_getI21, r_getI22, r_getI23, r_getI24, r_getI25, r_getI26, r_getI27, r_getI28, r_putI3 W, r_putI5 W, r_putI7 W, r_putI8 W, r_putI11 W, r_putI16 W, r_putI19 W, r_putI20 W, r_putI21 W, r_putI22 W, r_putI23 W, r_putI24 W, r_putI25 W, r_putI26 W, r_putI27 W, r_putI28 W, Sum.map_inl, Sum.map_inr, id_eq, eJ19 W, eJ20 W, e_X4_asks W, e_X4_fails W, e_X4_fewestTicks_B22 W, e_X4_rides W]
def P_X4_linesAt_B4 (a1 : Int32) (x2_1 : Int32) (x3_1 : Int32) (h0 : MS) : Option ((Int32 × Int32) ⊕ Int32) :=

  Option.bind (rd h0 0 (102 : Int32)) fun v3 =>
  if v3 ≤ x3_1 then (
    some (.inr x2_1)
  ) else (
    Option.bind (P_X4_carried a1 x3_1 h0) fun v6 =>
    some (.inl ((x2_1 ||| (if v6 < 0 then (0 : Int32) else ((1 : Int32) <<< (x3_1 &&& 31)))), (x3_1 + (1 : Int32))))
  )
set_option maxHeartbeats 1000000 in
theorem e_X4_linesAt_B4 {m : Nat} {ad : Nat → Nat} {h : HH} (W : WFM m ad h) (a1 : Int32) (x2_1 : Int32) (x3_1 : Int32) (h0 : MS)  : F_X4_linesAt_B4 m a1 x2_1 x3_1 (pu m ad h0 h) = P_X4_linesAt_B4 a1 x2_1 x3_1 h0 := by
  unfold F_X4_linesAt_B4 P_X4_linesAt_B4
  simp only [bind_pu, b2_pu, bind_map9, map_bind9, map_pb29, map_ite9, map_some9, map_none9, bind_some9, r_isO, r_aldI W, r_astI W, mv0, mv1, mv2, mv4, mv6, mv9, mv10, mv13, mv14, mv15, mv17, mv18, r_getR0, r_getR1, r_getR2, r_getR4, r_getR6, r_getR9, r_getR10, r_getR13, r_getR14, r_getR15, r_getR17, r_getR18, r_getJ, r_putJ W, r_getI3, r_getI5, r_getI7, r_getI8, r_getI11, r_getI16, r_getI19, r_getI20, r_getI21, r_getI22, r_getI23, r_getI24, r_getI25, r_getI26, r_getI27, r_getI28, r_putI3 W, r_putI5 W, r_putI7 W, r_putI8 W, r_putI11 W, r_putI16 W, r_putI19 W, r_putI20 W, r_putI21 W, r_putI22 W, r_putI23 W, r_putI24 W, r_putI25 W, r_putI26 W, r_putI27 W, r_putI28 W, Sum.map_inl, Sum.map_inr, id_eq, eJ19 W, eJ20 W, e_X4_carried W]
def P_X4_linesAt (a1 : Int32) (h0 : MS) : Option Int32 :=
  Option.bind (lp (fun z => P_X4_linesAt_B4 a1 z.1 z.2 h0) 100000 ((0 : Int32), (0 : Int32))) fun v8 =>
  some v8
set_option maxHeartbeats 1000000 in
theorem e_X4_linesAt {m : Nat} {ad : Nat → Nat} {h : HH} (W : WFM m ad h) (a1 : Int32) (h0 : MS)  : F_X4_linesAt m a1 (pu m ad h0 h) = P_X4_linesAt a1 h0 := by
  unfold F_X4_linesAt P_X4_linesAt
  simp only [bind_pu, b2_pu, bind_map9, map_bind9, map_pb29, map_ite9, map_some9, map_none9, bind_some9, r_isO, r_aldI W, r_astI W, mv0, mv1, mv2, mv4, mv6, mv9, mv10, mv13, mv14, mv15, mv17, mv18, r_getR0, r_getR1, r_getR2, r_getR4, r_getR6, r_getR9, r_getR10, r_getR13, r_getR14, r_getR15, r_getR17, r_getR18, r_getJ, r_putJ W, r_getI3, r_getI5, r_getI7, r_getI8, r_getI11, r_getI16, r_getI19, r_getI20, r_getI21, r_getI22, r_getI23, r_getI24, r_getI25, r_getI26, r_getI27, r_getI28, r_putI3 W, r_putI5 W, r_putI7 W, r_putI8 W, r_putI11 W, r_putI16 W, r_putI19 W, r_putI20 W, r_putI21 W, r_putI22 W, r_putI23 W, r_putI24 W, r_putI25 W, r_putI26 W, r_putI27 W, r_putI28 W, Sum.map_inl, Sum.map_inr, id_eq, eJ19 W, eJ20 W, e_X4_linesAt_B4 W]
def P_X4_stuckIn_T52 (x1_4 : Int32) (x2_4 : Int32) (y0_52 : Int32) (h3 : MS) : Option ((Int32 × Int32) ⊕ Int32) :=
  if y0_52 = 0 then (
    some (.inl ((x1_4 ||| (0 : Int32)), (x2_4 + (1 : Int32))))
  ) else (
    Option.bind (rd h3 18 x2_4) fun v13 =>
    some (.inl ((x1_4 ||| ((1 : Int32) <<< ((v13 / (1331 : Int32)) &&& 31))), (x2_4 + (1 : Int32))))
  )
set_option maxHeartbeats 1000000 in
theorem e_X4_stuckIn_T52 {m : Nat} {ad : Nat → Nat} {h : HH} (W : WFM m ad h) (x1_4 : Int32) (x2_4 : Int32) (y0_52 : Int32) (h3 : MS)  : F_X4_stuckIn_T52 m x1_4 x2_4 y0_52 (pu m ad h3 h) = P_X4_stuckIn_T52 x1_4 x2_4 y0_52 h3 := by
  unfold F_X4_stuckIn_T52 P_X4_stuckIn_T52
  simp only [bind_pu, b2_pu, bind_map9, map_bind9, map_pb29, map_ite9, map_some9, map_none9, bind_some9, r_isO, r_aldI W, r_astI W, mv0, mv1, mv2, mv4, mv6, mv9, mv10, mv13, mv14, mv15, mv17, mv18, r_getR0, r_getR1, r_getR2, r_getR4, r_getR6, r_getR9, r_getR10, r_getR13, r_getR14, r_getR15, r_getR17, r_getR18, r_getJ, r_putJ W, r_getI3, r_getI5, r_getI7, r_getI8, r_getI11, r_getI16, r_getI19, r_getI20, r_getI21, r_getI22, r_getI23, r_getI24, r_getI25, r_getI26, r_getI27, r_getI28, r_putI3 W, r_putI5 W, r_putI7 W, r_putI8 W, r_putI11 W, r_putI16 W, r_putI19 W, r_putI20 W, r_putI21 W, r_putI22 W, r_putI23 W, r_putI24 W, r_putI25 W, r_putI26 W, r_putI27 W, r_putI28 W, Sum.map_inl, Sum.map_inr, id_eq, eJ19 W, eJ20 W]
def P_X4_stuckIn_B13 (x1_4 : Int32) (x2_4 : Int32) (h3 : MS) : Option ((Int32 × Int32) ⊕ Int32) :=
  Option.bind (pgI h3 19) fun v5 =>
  if v5 ≤ x2_4 then (
    some (.inr x1_4)
  ) else (
    Option.bind (rd h3 18 x2_4) fun v8 =>
    Option.bind (P_X4_ticked v8 h3) fun v10 =>
    if 0 ≤ v10 then (
      P_X4_stuckIn_T52 x1_4 x2_4 (0 : Int32) h3
    ) else (
      Option.bind (rd h3 18 x2_4) fun v16 =>
      Option.bind (P_X4_linesAt v16 h3) fun v18 =>
      if v18 = 0 then (
        P_X4_stuckIn_T52 x1_4 x2_4 (1 : Int32) h3
      ) else (
        P_X4_stuckIn_T52 x1_4 x2_4 (0 : Int32) h3
      )
    )
  )
set_option maxHeartbeats 1000000 in
theorem e_X4_stuckIn_B13 {m : Nat} {ad : Nat → Nat} {h : HH} (W : WFM m ad h) (x1_4 : Int32) (x2_4 : Int32) (h3 : MS)  : F_X4_stuckIn_B13 m x1_4 x2_4 (pu m ad h3 h) = P_X4_stuckIn_B13 x1_4 x2_4 h3 := by
  unfold F_X4_stuckIn_B13 P_X4_stuckIn_B13
  simp only [bind_pu, b2_pu, bind_map9, map_bind9, map_pb29, map_ite9, map_some9, map_none9, bind_some9, r_isO, r_aldI W, r_astI W, mv0, mv1, mv2, mv4, mv6, mv9, mv10, mv13, mv14, mv15, mv17, mv18, r_getR0, r_getR1, r_getR2, r_getR4, r_getR6, r_getR9, r_getR10, r_getR13, r_getR14, r_getR15, r_getR17, r_getR18, r_getJ, r_putJ W, r_getI3, r_getI5, r_getI7, r_getI8, r_getI11, r_getI16, r_getI19, r_getI20, r_getI21, r_getI22, r_getI23, r_getI24, r_getI25, r_getI26, r_getI27, r_getI28, r_putI3 W, r_putI5 W, r_putI7 W, r_putI8 W, r_putI11 W, r_putI16 W, r_putI19 W, r_putI20 W, r_putI21 W, r_putI22 W, r_putI23 W, r_putI24 W, r_putI25 W, r_putI26 W, r_putI27 W, r_putI28 W, Sum.map_inl, Sum.map_inr, id_eq, eJ19 W, eJ20 W, e_X4_linesAt W, e_X4_stuckIn_T52 W, e_X4_ticked W]
def P_X4_stuckIn (h0 : MS) : Option (Int32 × MS) :=
  Option.bind (piI h0 8 (0 : Int32)) fun h1 =>
  Option.bind (P_X4_rides h1) fun h3 =>
  Option.bind (lp (fun z => P_X4_stuckIn_B13 z.1 z.2 h3) 100000 ((0 : Int32), (0 : Int32))) fun v20 =>
  some (v20, h3)
set_option maxHeartbeats 1000000 in
theorem e_X4_stuckIn {m : Nat} {ad : Nat → Nat} {h : HH} (W : WFM m ad h) (h0 : MS)  : F_X4_stuckIn m (pu m ad h0 h) = Option.map ((fun q => (q.1, pu m ad q.2 h))) (P_X4_stuckIn h0) := by
  unfold F_X4_stuckIn P_X4_stuckIn
  simp only [bind_pu, b2_pu, bind_map9, map_bind9, map_pb29, map_ite9, map_some9, map_none9, bind_some9, r_isO, r_aldI W, r_astI W, mv0, mv1, mv2, mv4, mv6, mv9, mv10, mv13, mv14, mv15, mv17, mv18, r_getR0, r_getR1, r_getR2, r_getR4, r_getR6, r_getR9, r_getR10, r_getR13, r_getR14, r_getR15, r_getR17, r_getR18, r_getJ, r_putJ W, r_getI3, r_getI5, r_getI7, r_getI8, r_getI11, r_getI16, r_getI19, r_getI20, r_getI21, r_getI22, r_getI23, r_getI24, r_getI25, r_getI26, r_getI27, r_getI28, r_putI3 W, r_putI5 W, r_putI7 W, r_putI8 W, r_putI11 W, r_putI16 W, r_putI19 W, r_putI20 W, r_putI21 W, r_putI22 W, r_putI23 W, r_putI24 W, r_putI25 W, r_putI26 W, r_putI27 W, r_putI28 W, Sum.map_inl, Sum.map_inr, id_eq, eJ19 W, eJ20 W, e_X4_rides W, e_X4_stuckIn_B13 W]
def P_X4_usableLines_B13 (x1_4 : Int32) (x2_4 : Int32) (h3 : MS) : Option ((Int32 × Int32) ⊕ Int32) :=
  Option.bind (pgI h3 19) fun v5 =>
  if v5 ≤ x2_4 then (
    some (.inr x1_4)
  ) else (
    Option.bind (rd h3 18 x2_4) fun v8 =>
    Option.bind (P_X4_linesAt v8 h3) fun v10 =>
    some (.inl ((x1_4 ||| v10), (x2_4 + (1 : Int32))))
  )
set_option maxHeartbeats 1000000 in
theorem e_X4_usableLines_B13 {m : Nat} {ad : Nat → Nat} {h : HH} (W : WFM m ad h) (x1_4 : Int32) (x2_4 : Int32) (h3 : MS)  : F_X4_usableLines_B13 m x1_4 x2_4 (pu m ad h3 h) = P_X4_usableLines_B13 x1_4 x2_4 h3 := by
  unfold F_X4_usableLines_B13 P_X4_usableLines_B13
  simp only [bind_pu, b2_pu, bind_map9, map_bind9, map_pb29, map_ite9, map_some9, map_none9, bind_some9, r_isO, r_aldI W, r_astI W, mv0, mv1, mv2, mv4, mv6, mv9, mv10, mv13, mv14, mv15, mv17, mv18, r_getR0, r_getR1, r_getR2, r_getR4, r_getR6, r_getR9, r_getR10, r_getR13, r_getR14, r_getR15, r_getR17, r_getR18, r_getJ, r_putJ W, r_getI3, r_getI5, r_getI7, r_getI8, r_getI11, r_getI16, r_getI19, r_getI20, r_getI21, r_getI22, r_getI23, r_getI24, r_getI25, r_getI26, r_getI27, r_getI28, r_putI3 W, r_putI5 W, r_putI7 W, r_putI8 W, r_putI11 W, r_putI16 W, r_putI19 W, r_putI20 W, r_putI21 W, r_putI22 W, r_putI23 W, r_putI24 W, r_putI25 W, r_putI26 W, r_putI27 W, r_putI28 W, Sum.map_inl, Sum.map_inr, id_eq, eJ19 W, eJ20 W, e_X4_linesAt W]
def P_X4_usableLines (h0 : MS) : Option (Int32 × MS) :=
  Option.bind (piI h0 8 (0 : Int32)) fun h1 =>
  Option.bind (P_X4_rides h1) fun h3 =>
  Option.bind (lp (fun z => P_X4_usableLines_B13 z.1 z.2 h3) 100000 ((0 : Int32), (0 : Int32))) fun v11 =>
  some (v11, h3)
set_option maxHeartbeats 1000000 in
theorem e_X4_usableLines {m : Nat} {ad : Nat → Nat} {h : HH} (W : WFM m ad h) (h0 : MS)  : F_X4_usableLines m (pu m ad h0 h) = Option.map ((fun q => (q.1, pu m ad q.2 h))) (P_X4_usableLines h0) := by
  unfold F_X4_usableLines P_X4_usableLines
  simp only [bind_pu, b2_pu, bind_map9, map_bind9, map_pb29, map_ite9, map_some9, map_none9, bind_some9, r_isO, r_aldI W, r_astI W, mv0, mv1, mv2, mv4, mv6, mv9, mv10, mv13, mv14, mv15, mv17, mv18, r_getR0, r_getR1, r_getR2, r_getR4, r_getR6, r_getR9, r_getR10, r_getR13, r_getR14, r_getR15, r_getR17, r_getR18, r_getJ, r_putJ W, r_getI3, r_getI5, r_getI7, r_getI8, r_getI11, r_getI16, r_getI19, r_getI20, r_getI21, r_getI22, r_getI23, r_getI24, r_getI25, r_getI26, r_getI27, r_getI28, r_putI3 W, r_putI5 W, r_putI7 W, r_putI8 W, r_putI11 W, r_putI16 W, r_putI19 W, r_putI20 W, r_putI21 W, r_putI22 W, r_putI23 W, r_putI24 W, r_putI25 W, r_putI26 W, r_putI27 W, r_putI28 W, Sum.map_inl, Sum.map_inr, id_eq, eJ19 W, eJ20 W, e_X4_rides W, e_X4_usableLines_B13 W]
def P_X4_part (h0 : MS) : Option (UInt32 × MS) :=
  Option.bind (piI h0 8 (0 : Int32)) fun h1 =>
  pb2 (P_X4_count h1) fun v4 h3 =>
  Option.bind (fdivP (FP.i2f v4) (1189658112 : UInt32)) fun v5 =>
  some ((FP.fdiv (FP.i2f v4) (1189658112 : UInt32)), h3)
set_option maxHeartbeats 1000000 in
theorem e_X4_part {m : Nat} {ad : Nat → Nat} {h : HH} (W : WFM m ad h) (h0 : MS)  : F_X4_part m (pu m ad h0 h) = Option.map ((fun q => (q.1, pu m ad q.2 h))) (P_X4_part h0) := by
  unfold F_X4_part P_X4_part
  simp only [bind_pu, b2_pu, bind_map9, map_bind9, map_pb29, map_ite9, map_some9, map_none9, bind_some9, r_isO, r_aldI W, r_astI W, mv0, mv1, mv2, mv4, mv6, mv9, mv10, mv13, mv14, mv15, mv17, mv18, r_getR0, r_getR1, r_getR2, r_getR4, r_getR6, r_getR9, r_getR10, r_getR13, r_getR14, r_getR15, r_getR17, r_getR18, r_getJ, r_putJ W, r_getI3, r_getI5, r_getI7, r_getI8, r_getI11, r_getI16, r_getI19, r_getI20, r_getI21, r_getI22, r_getI23, r_getI24, r_getI25, r_getI26, r_getI27, r_getI28, r_putI3 W, r_putI5 W, r_putI7 W, r_putI8 W, r_putI11 W, r_putI16 W, r_putI19 W, r_putI20 W, r_putI21 W, r_putI22 W, r_putI23 W, r_putI24 W, r_putI25 W, r_putI26 W, r_putI27 W, r_putI28 W, Sum.map_inl, Sum.map_inr, id_eq, eJ19 W, eJ20 W, e_X4_count W]
def P_X4_share (h0 : MS) : Option (UInt32 × MS) :=

  pb2 (P_X4_part h0) fun v3 h2 =>
  some (v3, h2)
set_option maxHeartbeats 1000000 in
theorem e_X4_share {m : Nat} {ad : Nat → Nat} {h : HH} (W : WFM m ad h) (h0 : MS)  : F_X4_share m (pu m ad h0 h) = Option.map ((fun q => (q.1, pu m ad q.2 h))) (P_X4_share h0) := by
  unfold F_X4_share P_X4_share
  simp only [bind_pu, b2_pu, bind_map9, map_bind9, map_pb29, map_ite9, map_some9, map_none9, bind_some9, r_isO, r_aldI W, r_astI W, mv0, mv1, mv2, mv4, mv6, mv9, mv10, mv13, mv14, mv15, mv17, mv18, r_getR0, r_getR1, r_getR2, r_getR4, r_getR6, r_getR9, r_getR10, r_getR13, r_getR14, r_getR15, r_getR17, r_getR18, r_getJ, r_putJ W, r_getI3, r_getI5, r_getI7, r_getI8, r_getI11, r_getI16, r_getI19, r_getI20, r_getI21, r_getI22, r_getI23, r_getI24, r_getI25, r_getI26, r_getI27, r_getI28, r_putI3 W, r_putI5 W, r_putI7 W, r_putI8 W, r_putI11 W, r_putI16 W, r_putI19 W, r_putI20 W, r_putI21 W, r_putI22 W, r_putI23 W, r_putI24 W, r_putI25 W, r_putI26 W, r_putI27 W, r_putI28 W, Sum.map_inl, Sum.map_inr, id_eq, eJ19 W, eJ20 W, e_X4_part W]
def P_X4_shareBits (h0 : MS) : Option (Int32 × MS) :=

  pb2 (P_X4_part h0) fun v3 h2 =>
  Option.bind (F_J19_floatToIntBits v3 hNil) fun v4 =>
  some (v4, h2)
set_option maxHeartbeats 1000000 in
theorem e_X4_shareBits {m : Nat} {ad : Nat → Nat} {h : HH} (W : WFM m ad h) (h0 : MS)  : F_X4_shareBits m (pu m ad h0 h) = Option.map ((fun q => (q.1, pu m ad q.2 h))) (P_X4_shareBits h0) := by
  unfold F_X4_shareBits P_X4_shareBits
  simp only [bind_pu, b2_pu, bind_map9, map_bind9, map_pb29, map_ite9, map_some9, map_none9, bind_some9, r_isO, r_aldI W, r_astI W, mv0, mv1, mv2, mv4, mv6, mv9, mv10, mv13, mv14, mv15, mv17, mv18, r_getR0, r_getR1, r_getR2, r_getR4, r_getR6, r_getR9, r_getR10, r_getR13, r_getR14, r_getR15, r_getR17, r_getR18, r_getJ, r_putJ W, r_getI3, r_getI5, r_getI7, r_getI8, r_getI11, r_getI16, r_getI19, r_getI20, r_getI21, r_getI22, r_getI23, r_getI24, r_getI25, r_getI26, r_getI27, r_getI28, r_putI3 W, r_putI5 W, r_putI7 W, r_putI8 W, r_putI11 W, r_putI16 W, r_putI19 W, r_putI20 W, r_putI21 W, r_putI22 W, r_putI23 W, r_putI24 W, r_putI25 W, r_putI26 W, r_putI27 W, r_putI28 W, Sum.map_inl, Sum.map_inr, id_eq, eJ19 W, eJ20 W, e_X4_part W]
def P_X4_meanBits (a1 : Int32) (h0 : MS) : Option (Int64 × MS) :=

  pb2 (P_X4_asks (F_X4_isClock a1) h0) fun v3 h2 =>
  if v3 = 0 then (
    some ((0 : Int64), h2)
  ) else (
    Option.bind (P_X4_looksAtMoments a1 (-1 : Int32) h2) fun h6 =>
    Option.bind (pgI h6 11) fun v7 =>
    Option.bind (piI h6 8 (if v7 = 0 then (2 : Int32) else (0 : Int32))) fun h9 =>
    Option.bind (pgI h9 11) fun v10 =>
    if v10 = 0 then (
      some ((0 : Int64), h9)
    ) else (
      Option.bind (pgJ h9) fun v12 =>
      Option.bind (pgI h9 11) fun v13 =>
      Option.bind (ddivP (FP.l2d v12) (FP.i2d v13)) fun v14 =>
      Option.bind (F_J20_doubleToLongBits (FP.ddiv (FP.l2d v12) (FP.i2d v13)) hNil) fun v15 =>
      some (v15, h9)
    )
  )
set_option maxHeartbeats 1000000 in
theorem e_X4_meanBits {m : Nat} {ad : Nat → Nat} {h : HH} (W : WFM m ad h) (a1 : Int32) (h0 : MS)  : F_X4_meanBits m a1 (pu m ad h0 h) = Option.map ((fun q => (q.1, pu m ad q.2 h))) (P_X4_meanBits a1 h0) := by
  unfold F_X4_meanBits P_X4_meanBits
  simp only [bind_pu, b2_pu, bind_map9, map_bind9, map_pb29, map_ite9, map_some9, map_none9, bind_some9, r_isO, r_aldI W, r_astI W, mv0, mv1, mv2, mv4, mv6, mv9, mv10, mv13, mv14, mv15, mv17, mv18, r_getR0, r_getR1, r_getR2, r_getR4, r_getR6, r_getR9, r_getR10, r_getR13, r_getR14, r_getR15, r_getR17, r_getR18, r_getJ, r_putJ W, r_getI3, r_getI5, r_getI7, r_getI8, r_getI11, r_getI16, r_getI19, r_getI20, r_getI21, r_getI22, r_getI23, r_getI24, r_getI25, r_getI26, r_getI27, r_getI28, r_putI3 W, r_putI5 W, r_putI7 W, r_putI8 W, r_putI11 W, r_putI16 W, r_putI19 W, r_putI20 W, r_putI21 W, r_putI22 W, r_putI23 W, r_putI24 W, r_putI25 W, r_putI26 W, r_putI27 W, r_putI28 W, Sum.map_inl, Sum.map_inr, id_eq, eJ19 W, eJ20 W, e_X4_asks W, e_X4_looksAtMoments W]
def P_X4_worked (h0 : MS) : Option (Int32 × MS) :=
  Option.bind (piI h0 8 (0 : Int32)) fun h1 =>
  Option.bind (rd h1 0 (193 : Int32)) fun v3 =>
  some (v3, h1)
set_option maxHeartbeats 1000000 in
theorem e_X4_worked {m : Nat} {ad : Nat → Nat} {h : HH} (W : WFM m ad h) (h0 : MS)  : F_X4_worked m (pu m ad h0 h) = Option.map ((fun q => (q.1, pu m ad q.2 h))) (P_X4_worked h0) := by
  unfold F_X4_worked P_X4_worked
  simp only [bind_pu, b2_pu, bind_map9, map_bind9, map_pb29, map_ite9, map_some9, map_none9, bind_some9, r_isO, r_aldI W, r_astI W, mv0, mv1, mv2, mv4, mv6, mv9, mv10, mv13, mv14, mv15, mv17, mv18, r_getR0, r_getR1, r_getR2, r_getR4, r_getR6, r_getR9, r_getR10, r_getR13, r_getR14, r_getR15, r_getR17, r_getR18, r_getJ, r_putJ W, r_getI3, r_getI5, r_getI7, r_getI8, r_getI11, r_getI16, r_getI19, r_getI20, r_getI21, r_getI22, r_getI23, r_getI24, r_getI25, r_getI26, r_getI27, r_getI28, r_putI3 W, r_putI5 W, r_putI7 W, r_putI8 W, r_putI11 W, r_putI16 W, r_putI19 W, r_putI20 W, r_putI21 W, r_putI22 W, r_putI23 W, r_putI24 W, r_putI25 W, r_putI26 W, r_putI27 W, r_putI28 W, Sum.map_inl, Sum.map_inr, id_eq, eJ19 W, eJ20 W]
def P_X4_keep (h0 : MS) : Option (Int32 × MS) :=
  Option.bind (piI h0 8 (0 : Int32)) fun h1 =>
  Option.bind (piI h1 3 (1 : Int32)) fun h2 =>
  Option.bind (P_X4_copies 0 (0 : Int32) 2 (0 : Int32) h2) fun h5 =>
  pb2 (P_X4_count h5) fun v8 h7 =>
  some (v8, h7)
set_option maxHeartbeats 1000000 in
theorem e_X4_keep {m : Nat} {ad : Nat → Nat} {h : HH} (W : WFM m ad h) (h0 : MS)  : F_X4_keep m (pu m ad h0 h) = Option.map ((fun q => (q.1, pu m ad q.2 h))) (P_X4_keep h0) := by
  unfold F_X4_keep P_X4_keep
  simp only [bind_pu, b2_pu, bind_map9, map_bind9, map_pb29, map_ite9, map_some9, map_none9, bind_some9, r_isO, r_aldI W, r_astI W, mv0, mv1, mv2, mv4, mv6, mv9, mv10, mv13, mv14, mv15, mv17, mv18, r_getR0, r_getR1, r_getR2, r_getR4, r_getR6, r_getR9, r_getR10, r_getR13, r_getR14, r_getR15, r_getR17, r_getR18, r_getJ, r_putJ W, r_getI3, r_getI5, r_getI7, r_getI8, r_getI11, r_getI16, r_getI19, r_getI20, r_getI21, r_getI22, r_getI23, r_getI24, r_getI25, r_getI26, r_getI27, r_getI28, r_putI3 W, r_putI5 W, r_putI7 W, r_putI8 W, r_putI11 W, r_putI16 W, r_putI19 W, r_putI20 W, r_putI21 W, r_putI22 W, r_putI23 W, r_putI24 W, r_putI25 W, r_putI26 W, r_putI27 W, r_putI28 W, Sum.map_inl, Sum.map_inr, id_eq, eJ19 W, eJ20 W, e_X4_copies W, e_X4_count W]
def P_X4_goBack (h0 : MS) : Option (Int32 × MS) :=

  Option.bind (P_X4_begins h0) fun h2 =>
  Option.bind (pgI h2 3) fun v3 =>
  if v3 = 0 then (
    pb2 (P_X4_fails (1 : Int32) h2) fun v15 h14 =>
    some (v15, h14)
  ) else (
    Option.bind (P_X4_copies 2 (0 : Int32) 0 (0 : Int32) h2) fun h7 =>
    Option.bind (P_X4_records h7) fun h9 =>
    pb2 (P_X4_count h9) fun v12 h11 =>
    some (v12, h11)
  )
set_option maxHeartbeats 1000000 in
theorem e_X4_goBack {m : Nat} {ad : Nat → Nat} {h : HH} (W : WFM m ad h) (h0 : MS)  : F_X4_goBack m (pu m ad h0 h) = Option.map ((fun q => (q.1, pu m ad q.2 h))) (P_X4_goBack h0) := by
  unfold F_X4_goBack P_X4_goBack
  simp only [bind_pu, b2_pu, bind_map9, map_bind9, map_pb29, map_ite9, map_some9, map_none9, bind_some9, r_isO, r_aldI W, r_astI W, mv0, mv1, mv2, mv4, mv6, mv9, mv10, mv13, mv14, mv15, mv17, mv18, r_getR0, r_getR1, r_getR2, r_getR4, r_getR6, r_getR9, r_getR10, r_getR13, r_getR14, r_getR15, r_getR17, r_getR18, r_getJ, r_putJ W, r_getI3, r_getI5, r_getI7, r_getI8, r_getI11, r_getI16, r_getI19, r_getI20, r_getI21, r_getI22, r_getI23, r_getI24, r_getI25, r_getI26, r_getI27, r_getI28, r_putI3 W, r_putI5 W, r_putI7 W, r_putI8 W, r_putI11 W, r_putI16 W, r_putI19 W, r_putI20 W, r_putI21 W, r_putI22 W, r_putI23 W, r_putI24 W, r_putI25 W, r_putI26 W, r_putI27 W, r_putI28 W, Sum.map_inl, Sum.map_inr, id_eq, eJ19 W, eJ20 W, e_X4_begins W, e_X4_copies W, e_X4_count W, e_X4_fails W, e_X4_records W]
def P_X4_undo (h0 : MS) : Option (Int32 × MS) :=
  Option.bind (piI h0 8 (0 : Int32)) fun h1 =>
  Option.bind (pgI h1 5) fun v2 =>
  if v2 = 0 then (
    pb2 (P_X4_fails (1 : Int32) h1) fun v13 h12 =>
    some (v13, h12)
  ) else (
    Option.bind (pgI h1 5) fun v4 =>
    Option.bind (piI h1 5 (v4 - (1 : Int32))) fun h5 =>
    Option.bind (pgI h5 5) fun v7 =>
    Option.bind (P_X4_copies 4 ((194 : Int32) * v7) 0 (0 : Int32) h5) fun h9 =>
    Option.bind (pgI h9 5) fun v10 =>
    some (v10, h9)
  )
set_option maxHeartbeats 1000000 in
theorem e_X4_undo {m : Nat} {ad : Nat → Nat} {h : HH} (W : WFM m ad h) (h0 : MS)  : F_X4_undo m (pu m ad h0 h) = Option.map ((fun q => (q.1, pu m ad q.2 h))) (P_X4_undo h0) := by
  unfold F_X4_undo P_X4_undo
  simp only [bind_pu, b2_pu, bind_map9, map_bind9, map_pb29, map_ite9, map_some9, map_none9, bind_some9, r_isO, r_aldI W, r_astI W, mv0, mv1, mv2, mv4, mv6, mv9, mv10, mv13, mv14, mv15, mv17, mv18, r_getR0, r_getR1, r_getR2, r_getR4, r_getR6, r_getR9, r_getR10, r_getR13, r_getR14, r_getR15, r_getR17, r_getR18, r_getJ, r_putJ W, r_getI3, r_getI5, r_getI7, r_getI8, r_getI11, r_getI16, r_getI19, r_getI20, r_getI21, r_getI22, r_getI23, r_getI24, r_getI25, r_getI26, r_getI27, r_getI28, r_putI3 W, r_putI5 W, r_putI7 W, r_putI8 W, r_putI11 W, r_putI16 W, r_putI19 W, r_putI20 W, r_putI21 W, r_putI22 W, r_putI23 W, r_putI24 W, r_putI25 W, r_putI26 W, r_putI27 W, r_putI28 W, Sum.map_inl, Sum.map_inr, id_eq, eJ19 W, eJ20 W, e_X4_copies W, e_X4_fails W]
def P_X4_states (h0 : MS) : Option (Int32 × MS) :=
  Option.bind (piI h0 8 (0 : Int32)) fun h1 =>
  Option.bind (pgI h1 5) fun v2 =>
  some (v2, h1)
set_option maxHeartbeats 1000000 in
theorem e_X4_states {m : Nat} {ad : Nat → Nat} {h : HH} (W : WFM m ad h) (h0 : MS)  : F_X4_states m (pu m ad h0 h) = Option.map ((fun q => (q.1, pu m ad q.2 h))) (P_X4_states h0) := by
  unfold F_X4_states P_X4_states
  simp only [bind_pu, b2_pu, bind_map9, map_bind9, map_pb29, map_ite9, map_some9, map_none9, bind_some9, r_isO, r_aldI W, r_astI W, mv0, mv1, mv2, mv4, mv6, mv9, mv10, mv13, mv14, mv15, mv17, mv18, r_getR0, r_getR1, r_getR2, r_getR4, r_getR6, r_getR9, r_getR10, r_getR13, r_getR14, r_getR15, r_getR17, r_getR18, r_getJ, r_putJ W, r_getI3, r_getI5, r_getI7, r_getI8, r_getI11, r_getI16, r_getI19, r_getI20, r_getI21, r_getI22, r_getI23, r_getI24, r_getI25, r_getI26, r_getI27, r_getI28, r_putI3 W, r_putI5 W, r_putI7 W, r_putI8 W, r_putI11 W, r_putI16 W, r_putI19 W, r_putI20 W, r_putI21 W, r_putI22 W, r_putI23 W, r_putI24 W, r_putI25 W, r_putI26 W, r_putI27 W, r_putI28 W, Sum.map_inl, Sum.map_inr, id_eq, eJ19 W, eJ20 W]
def P_X4_type (a1 : Int32) (h0 : MS) : Option (Int32 × MS) :=
  Option.bind (piI h0 8 (0 : Int32)) fun h1 =>
  if (F_X4_in a1 (32 : Int32) (126 : Int32)) = 0 then (
    pb2 (P_X4_fails (1 : Int32) h1) fun v16 h15 =>
    some (v16, h15)
  ) else (
    Option.bind (pgI h1 7) fun v3 =>
    if v3 = (60 : Int32) then (
      pb2 (P_X4_fails (2 : Int32) h1) fun v13 h12 =>
      some (v13, h12)
    ) else (
      Option.bind (pgI h1 7) fun v6 =>
      Option.bind (wr h1 6 v6 a1) fun h7 =>
      Option.bind (pgI h7 7) fun v8 =>
      Option.bind (piI h7 7 (v8 + (1 : Int32))) fun h9 =>
      Option.bind (pgI h9 7) fun v10 =>
      some (v10, h9)
    )
  )
set_option maxHeartbeats 1000000 in
theorem e_X4_type {m : Nat} {ad : Nat → Nat} {h : HH} (W : WFM m ad h) (a1 : Int32) (h0 : MS)  : F_X4_type m a1 (pu m ad h0 h) = Option.map ((fun q => (q.1, pu m ad q.2 h))) (P_X4_type a1 h0) := by
  unfold F_X4_type P_X4_type
  simp only [bind_pu, b2_pu, bind_map9, map_bind9, map_pb29, map_ite9, map_some9, map_none9, bind_some9, r_isO, r_aldI W, r_astI W, mv0, mv1, mv2, mv4, mv6, mv9, mv10, mv13, mv14, mv15, mv17, mv18, r_getR0, r_getR1, r_getR2, r_getR4, r_getR6, r_getR9, r_getR10, r_getR13, r_getR14, r_getR15, r_getR17, r_getR18, r_getJ, r_putJ W, r_getI3, r_getI5, r_getI7, r_getI8, r_getI11, r_getI16, r_getI19, r_getI20, r_getI21, r_getI22, r_getI23, r_getI24, r_getI25, r_getI26, r_getI27, r_getI28, r_putI3 W, r_putI5 W, r_putI7 W, r_putI8 W, r_putI11 W, r_putI16 W, r_putI19 W, r_putI20 W, r_putI21 W, r_putI22 W, r_putI23 W, r_putI24 W, r_putI25 W, r_putI26 W, r_putI27 W, r_putI28 W, Sum.map_inl, Sum.map_inr, id_eq, eJ19 W, eJ20 W, e_X4_fails W]
def P_X4_clearText (h0 : MS) : Option (Int32 × MS) :=
  Option.bind (piI h0 8 (0 : Int32)) fun h1 =>
  Option.bind (pgI h1 7) fun v2 =>
  Option.bind (piI h1 7 (0 : Int32)) fun h3 =>
  some (v2, h3)
set_option maxHeartbeats 1000000 in
theorem e_X4_clearText {m : Nat} {ad : Nat → Nat} {h : HH} (W : WFM m ad h) (h0 : MS)  : F_X4_clearText m (pu m ad h0 h) = Option.map ((fun q => (q.1, pu m ad q.2 h))) (P_X4_clearText h0) := by
  unfold F_X4_clearText P_X4_clearText
  simp only [bind_pu, b2_pu, bind_map9, map_bind9, map_pb29, map_ite9, map_some9, map_none9, bind_some9, r_isO, r_aldI W, r_astI W, mv0, mv1, mv2, mv4, mv6, mv9, mv10, mv13, mv14, mv15, mv17, mv18, r_getR0, r_getR1, r_getR2, r_getR4, r_getR6, r_getR9, r_getR10, r_getR13, r_getR14, r_getR15, r_getR17, r_getR18, r_getJ, r_putJ W, r_getI3, r_getI5, r_getI7, r_getI8, r_getI11, r_getI16, r_getI19, r_getI20, r_getI21, r_getI22, r_getI23, r_getI24, r_getI25, r_getI26, r_getI27, r_getI28, r_putI3 W, r_putI5 W, r_putI7 W, r_putI8 W, r_putI11 W, r_putI16 W, r_putI19 W, r_putI20 W, r_putI21 W, r_putI22 W, r_putI23 W, r_putI24 W, r_putI25 W, r_putI26 W, r_putI27 W, r_putI28 W, Sum.map_inl, Sum.map_inr, id_eq, eJ19 W, eJ20 W]
def P_X4_doesOrder (h0 : MS) : Option (Int32 × MS) :=
  Option.bind (pgI h0 23) fun v1 =>
  if v1 = (100 : Int32) then (
    Option.bind (pgI h0 24) fun v2 =>
    Option.bind (pgI h0 25) fun v3 =>
    Option.bind (pgI h0 26) fun v4 =>
    pb2 (P_X4_goTell v2 v3 v4 h0) fun v7 h6 =>
    some (v7, h6)
  ) else (
    if v1 = (102 : Int32) then (
      Option.bind (pgI h0 24) fun v8 =>
      pb2 (P_X4_goFree v8 h0) fun v11 h10 =>
      some (v11, h10)
    ) else (
      if v1 = (108 : Int32) then (
        Option.bind (pgI h0 24) fun v12 =>
        Option.bind (pgI h0 25) fun v13 =>
        pb2 (P_X4_goTell (3 : Int32) v12 (-v13) h0) fun v16 h15 =>
        some (v16, h15)
      ) else (
        if v1 = (109 : Int32) then (
          Option.bind (pgI h0 24) fun v17 =>
          Option.bind (pgI h0 25) fun v18 =>
          pb2 (P_X4_goTell v17 (3 : Int32) v18 h0) fun v21 h20 =>
          some (v21, h20)
        ) else (
          if v1 = (114 : Int32) then (
            Option.bind (pgI h0 24) fun v22 =>
            Option.bind (pgI h0 25) fun v23 =>
            pb2 (P_X4_goReset v22 v23 h0) fun v26 h25 =>
            some (v26, h25)
          ) else (
            if v1 = (119 : Int32) then (
              pb2 (P_X4_goDelay h0) fun v29 h28 =>
              some (v29, h28)
            ) else (
              pb2 (P_X4_goTighten h0) fun v32 h31 =>
              some (v32, h31)
            )
          )
        )
      )
    )
  )
set_option maxHeartbeats 1000000 in
theorem e_X4_doesOrder {m : Nat} {ad : Nat → Nat} {h : HH} (W : WFM m ad h) (h0 : MS)  : F_X4_doesOrder m (pu m ad h0 h) = Option.map ((fun q => (q.1, pu m ad q.2 h))) (P_X4_doesOrder h0) := by
  unfold F_X4_doesOrder P_X4_doesOrder
  simp only [bind_pu, b2_pu, bind_map9, map_bind9, map_pb29, map_ite9, map_some9, map_none9, bind_some9, r_isO, r_aldI W, r_astI W, mv0, mv1, mv2, mv4, mv6, mv9, mv10, mv13, mv14, mv15, mv17, mv18, r_getR0, r_getR1, r_getR2, r_getR4, r_getR6, r_getR9, r_getR10, r_getR13, r_getR14, r_getR15, r_getR17, r_getR18, r_getJ, r_putJ W, r_getI3, r_getI5, r_getI7, r_getI8, r_getI11, r_getI16, r_getI19, r_getI20, r_getI21, r_getI22, r_getI23, r_getI24, r_getI25, r_getI26, r_getI27, r_getI28, r_putI3 W, r_putI5 W, r_putI7 W, r_putI8 W, r_putI11 W, r_putI16 W, r_putI19 W, r_putI20 W, r_putI21 W, r_putI22 W, r_putI23 W, r_putI24 W, r_putI25 W, r_putI26 W, r_putI27 W, r_putI28 W, Sum.map_inl, Sum.map_inr, id_eq, eJ19 W, eJ20 W, e_X4_goDelay W, e_X4_goFree W, e_X4_goReset W, e_X4_goTell W, e_X4_goTighten W]
def P_X4_here (h0 : MS) : Option Int32 :=
  Option.bind (pgI h0 20) fun v1 =>
  Option.bind (pgI h0 7) fun v2 =>
  if v2 ≤ v1 then (
    some (0 : Int32)
  ) else (
    Option.bind (pgI h0 20) fun v5 =>
    Option.bind (rd h0 6 v5) fun v6 =>
    some v6
  )
set_option maxHeartbeats 1000000 in
theorem e_X4_here {m : Nat} {ad : Nat → Nat} {h : HH} (W : WFM m ad h) (h0 : MS)  : F_X4_here m (pu m ad h0 h) = P_X4_here h0 := by
  unfold F_X4_here P_X4_here
  simp only [bind_pu, b2_pu, bind_map9, map_bind9, map_pb29, map_ite9, map_some9, map_none9, bind_some9, r_isO, r_aldI W, r_astI W, mv0, mv1, mv2, mv4, mv6, mv9, mv10, mv13, mv14, mv15, mv17, mv18, r_getR0, r_getR1, r_getR2, r_getR4, r_getR6, r_getR9, r_getR10, r_getR13, r_getR14, r_getR15, r_getR17, r_getR18, r_getJ, r_putJ W, r_getI3, r_getI5, r_getI7, r_getI8, r_getI11, r_getI16, r_getI19, r_getI20, r_getI21, r_getI22, r_getI23, r_getI24, r_getI25, r_getI26, r_getI27, r_getI28, r_putI3 W, r_putI5 W, r_putI7 W, r_putI8 W, r_putI11 W, r_putI16 W, r_putI19 W, r_putI20 W, r_putI21 W, r_putI22 W, r_putI23 W, r_putI24 W, r_putI25 W, r_putI26 W, r_putI27 W, r_putI28 W, Sum.map_inl, Sum.map_inr, id_eq, eJ19 W, eJ20 W]
def P_X4_takes (a1 : Int32) (h0 : MS) : Option MS :=
  Option.bind (pgI h0 22) fun v1 =>
  Option.bind (okZ (if v1 = 0 then (0 : Int32) else (if a1 = 0 then (0 : Int32) else (1 : Int32)))) fun _ =>
  Option.bind (piI h0 22 (if v1 = 0 then (0 : Int32) else (if a1 = 0 then (0 : Int32) else (1 : Int32)))) fun h4 =>
  Option.bind (pgI h4 20) fun v6 =>
  Option.bind (pgI h4 22) fun v7 =>
  Option.bind (piI h4 20 (v6 + (if v7 = 0 then (0 : Int32) else (1 : Int32)))) fun h9 =>
  some h9
set_option maxHeartbeats 1000000 in
theorem e_X4_takes {m : Nat} {ad : Nat → Nat} {h : HH} (W : WFM m ad h) (a1 : Int32) (h0 : MS)  : F_X4_takes m a1 (pu m ad h0 h) = Option.map ((fun S => pu m ad S h)) (P_X4_takes a1 h0) := by
  unfold F_X4_takes P_X4_takes
  simp only [bind_pu, b2_pu, bind_map9, map_bind9, map_pb29, map_ite9, map_some9, map_none9, bind_some9, r_isO, r_aldI W, r_astI W, mv0, mv1, mv2, mv4, mv6, mv9, mv10, mv13, mv14, mv15, mv17, mv18, r_getR0, r_getR1, r_getR2, r_getR4, r_getR6, r_getR9, r_getR10, r_getR13, r_getR14, r_getR15, r_getR17, r_getR18, r_getJ, r_putJ W, r_getI3, r_getI5, r_getI7, r_getI8, r_getI11, r_getI16, r_getI19, r_getI20, r_getI21, r_getI22, r_getI23, r_getI24, r_getI25, r_getI26, r_getI27, r_getI28, r_putI3 W, r_putI5 W, r_putI7 W, r_putI8 W, r_putI11 W, r_putI16 W, r_putI19 W, r_putI20 W, r_putI21 W, r_putI22 W, r_putI23 W, r_putI24 W, r_putI25 W, r_putI26 W, r_putI27 W, r_putI28 W, Sum.map_inl, Sum.map_inr, id_eq, eJ19 W, eJ20 W]
def P_X4_takesDigit (h0 : MS) : Option (Int32 × MS) :=

  Option.bind (P_X4_here h0) fun v2 =>
  Option.bind (P_X4_takes (F_X4_in (v2 - (48 : Int32)) (0 : Int32) (9 : Int32)) h0) fun h4 =>
  some ((v2 - (48 : Int32)), h4)
set_option maxHeartbeats 1000000 in
theorem e_X4_takesDigit {m : Nat} {ad : Nat → Nat} {h : HH} (W : WFM m ad h) (h0 : MS)  : F_X4_takesDigit m (pu m ad h0 h) = Option.map ((fun q => (q.1, pu m ad q.2 h))) (P_X4_takesDigit h0) := by
  unfold F_X4_takesDigit P_X4_takesDigit
  simp only [bind_pu, b2_pu, bind_map9, map_bind9, map_pb29, map_ite9, map_some9, map_none9, bind_some9, r_isO, r_aldI W, r_astI W, mv0, mv1, mv2, mv4, mv6, mv9, mv10, mv13, mv14, mv15, mv17, mv18, r_getR0, r_getR1, r_getR2, r_getR4, r_getR6, r_getR9, r_getR10, r_getR13, r_getR14, r_getR15, r_getR17, r_getR18, r_getJ, r_putJ W, r_getI3, r_getI5, r_getI7, r_getI8, r_getI11, r_getI16, r_getI19, r_getI20, r_getI21, r_getI22, r_getI23, r_getI24, r_getI25, r_getI26, r_getI27, r_getI28, r_putI3 W, r_putI5 W, r_putI7 W, r_putI8 W, r_putI11 W, r_putI16 W, r_putI19 W, r_putI20 W, r_putI21 W, r_putI22 W, r_putI23 W, r_putI24 W, r_putI25 W, r_putI26 W, r_putI27 W, r_putI28 W, Sum.map_inl, Sum.map_inr, id_eq, eJ19 W, eJ20 W, e_X4_here W, e_X4_takes W]
def P_X4_takesOrder_T199 (y0_44 : Int32) (y0_77 : Int32) (y0_110 : Int32) (h_199 : MS) : Option MS :=

  Option.bind (P_X4_here h_199) fun v13 =>
  Option.bind (P_X4_takes (if v13 = (59 : Int32) then (1 : Int32) else (0 : Int32)) h_199) fun h16 =>
  some h16
set_option maxHeartbeats 1000000 in
theorem e_X4_takesOrder_T199 {m : Nat} {ad : Nat → Nat} {h : HH} (W : WFM m ad h) (y0_44 : Int32) (y0_77 : Int32) (y0_110 : Int32) (h_199 : MS)  : F_X4_takesOrder_T199 m y0_44 y0_77 y0_110 (some m) (pu m ad h_199 h) = Option.map ((fun S => pu m ad S h)) (P_X4_takesOrder_T199 y0_44 y0_77 y0_110 h_199) := by
  unfold F_X4_takesOrder_T199 P_X4_takesOrder_T199
  simp only [bind_pu, b2_pu, bind_map9, map_bind9, map_pb29, map_ite9, map_some9, map_none9, bind_some9, r_isO, r_aldI W, r_astI W, mv0, mv1, mv2, mv4, mv6, mv9, mv10, mv13, mv14, mv15, mv17, mv18, r_getR0, r_getR1, r_getR2, r_getR4, r_getR6, r_getR9, r_getR10, r_getR13, r_getR14, r_getR15, r_getR17, r_getR18, r_getJ, r_putJ W, r_getI3, r_getI5, r_getI7, r_getI8, r_getI11, r_getI16, r_getI19, r_getI20, r_getI21, r_getI22, r_getI23, r_getI24, r_getI25, r_getI26, r_getI27, r_getI28, r_putI3 W, r_putI5 W, r_putI7 W, r_putI8 W, r_putI11 W, r_putI16 W, r_putI19 W, r_putI20 W, r_putI21 W, r_putI22 W, r_putI23 W, r_putI24 W, r_putI25 W, r_putI26 W, r_putI27 W, r_putI28 W, Sum.map_inl, Sum.map_inr, id_eq, eJ19 W, eJ20 W, e_X4_here W, e_X4_takes W]
def P_X4_takesOrder_T164 (y0_44 : Int32) (y0_77 : Int32) (y0_110 : Int32) (h_164 : MS) : Option MS :=
  Option.bind (pgI h_164 23) fun v11 =>
  if v11 = (100 : Int32) then (
    Option.bind (P_X4_here h_164) fun v19 =>
    Option.bind (P_X4_takes (if v19 = (44 : Int32) then (1 : Int32) else (0 : Int32)) h_164) fun h22 =>
    pb2 (P_X4_takesDigit h22) fun v25 h24 =>
    Option.bind (piI h24 26 v25) fun h26 =>
    P_X4_takesOrder_T199 y0_44 y0_77 y0_110  h26
  ) else (
    P_X4_takesOrder_T199 y0_44 y0_77 y0_110  h_164
  )
set_option maxHeartbeats 1000000 in
theorem e_X4_takesOrder_T164 {m : Nat} {ad : Nat → Nat} {h : HH} (W : WFM m ad h) (y0_44 : Int32) (y0_77 : Int32) (y0_110 : Int32) (h_164 : MS)  : F_X4_takesOrder_T164 m y0_44 y0_77 y0_110 (some m) (pu m ad h_164 h) = Option.map ((fun S => pu m ad S h)) (P_X4_takesOrder_T164 y0_44 y0_77 y0_110 h_164) := by
  unfold F_X4_takesOrder_T164 P_X4_takesOrder_T164
  simp only [bind_pu, b2_pu, bind_map9, map_bind9, map_pb29, map_ite9, map_some9, map_none9, bind_some9, r_isO, r_aldI W, r_astI W, mv0, mv1, mv2, mv4, mv6, mv9, mv10, mv13, mv14, mv15, mv17, mv18, r_getR0, r_getR1, r_getR2, r_getR4, r_getR6, r_getR9, r_getR10, r_getR13, r_getR14, r_getR15, r_getR17, r_getR18, r_getJ, r_putJ W, r_getI3, r_getI5, r_getI7, r_getI8, r_getI11, r_getI16, r_getI19, r_getI20, r_getI21, r_getI22, r_getI23, r_getI24, r_getI25, r_getI26, r_getI27, r_getI28, r_putI3 W, r_putI5 W, r_putI7 W, r_putI8 W, r_putI11 W, r_putI16 W, r_putI19 W, r_putI20 W, r_putI21 W, r_putI22 W, r_putI23 W, r_putI24 W, r_putI25 W, r_putI26 W, r_putI27 W, r_putI28 W, Sum.map_inl, Sum.map_inr, id_eq, eJ19 W, eJ20 W, e_X4_here W, e_X4_takes W, e_X4_takesDigit W, e_X4_takesOrder_T199 W]
def P_X4_takesOrder_T125 (y0_44 : Int32) (y0_77 : Int32) (y0_110 : Int32) (h_125 : MS) : Option MS :=
  if y0_77 = 0 then (
    Option.bind (pgI h_125 23) fun v37 =>
    if v37 = (100 : Int32) then (
      Option.bind (P_X4_here h_125) fun v40 =>
      Option.bind (P_X4_takes (if v40 = (44 : Int32) then (1 : Int32) else (0 : Int32)) h_125) fun h43 =>
      pb2 (P_X4_takesDigit h43) fun v46 h45 =>
      Option.bind (piI h45 25 v46) fun h47 =>
      P_X4_takesOrder_T164 y0_44 y0_77 y0_110  h47
    ) else (
      P_X4_takesOrder_T164 y0_44 y0_77 y0_110  h_125
    )
  ) else (
    Option.bind (P_X4_here h_125) fun v29 =>
    Option.bind (P_X4_takes (if v29 = (44 : Int32) then (1 : Int32) else (0 : Int32)) h_125) fun h32 =>
    pb2 (P_X4_takesDigit h32) fun v35 h34 =>
    Option.bind (piI h34 25 v35) fun h36 =>
    P_X4_takesOrder_T164 y0_44 y0_77 y0_110  h36
  )
set_option maxHeartbeats 1000000 in
theorem e_X4_takesOrder_T125 {m : Nat} {ad : Nat → Nat} {h : HH} (W : WFM m ad h) (y0_44 : Int32) (y0_77 : Int32) (y0_110 : Int32) (h_125 : MS)  : F_X4_takesOrder_T125 m y0_44 y0_77 y0_110 (some m) (pu m ad h_125 h) = Option.map ((fun S => pu m ad S h)) (P_X4_takesOrder_T125 y0_44 y0_77 y0_110 h_125) := by
  unfold F_X4_takesOrder_T125 P_X4_takesOrder_T125
  simp only [bind_pu, b2_pu, bind_map9, map_bind9, map_pb29, map_ite9, map_some9, map_none9, bind_some9, r_isO, r_aldI W, r_astI W, mv0, mv1, mv2, mv4, mv6, mv9, mv10, mv13, mv14, mv15, mv17, mv18, r_getR0, r_getR1, r_getR2, r_getR4, r_getR6, r_getR9, r_getR10, r_getR13, r_getR14, r_getR15, r_getR17, r_getR18, r_getJ, r_putJ W, r_getI3, r_getI5, r_getI7, r_getI8, r_getI11, r_getI16, r_getI19, r_getI20, r_getI21, r_getI22, r_getI23, r_getI24, r_getI25, r_getI26, r_getI27, r_getI28, r_putI3 W, r_putI5 W, r_putI7 W, r_putI8 W, r_putI11 W, r_putI16 W, r_putI19 W, r_putI20 W, r_putI21 W, r_putI22 W, r_putI23 W, r_putI24 W, r_putI25 W, r_putI26 W, r_putI27 W, r_putI28 W, Sum.map_inl, Sum.map_inr, id_eq, eJ19 W, eJ20 W, e_X4_here W, e_X4_takes W, e_X4_takesDigit W, e_X4_takesOrder_T164 W]
def P_X4_takesOrder_T110 (y0_44 : Int32) (y0_77 : Int32) (y0_110 : Int32) (h_110 : MS) : Option MS :=

  Option.bind (P_X4_takes y0_110 h_110) fun h10 =>
  if y0_44 = 0 then (
    pb2 (P_X4_takesDigit h10) fun v51 h50 =>
    Option.bind (piI h50 24 v51) fun h52 =>
    P_X4_takesOrder_T125 y0_44 y0_77 y0_110  h52
  ) else (
    P_X4_takesOrder_T125 y0_44 y0_77 y0_110  h10
  )
set_option maxHeartbeats 1000000 in
theorem e_X4_takesOrder_T110 {m : Nat} {ad : Nat → Nat} {h : HH} (W : WFM m ad h) (y0_44 : Int32) (y0_77 : Int32) (y0_110 : Int32) (h_110 : MS)  : F_X4_takesOrder_T110 m y0_44 y0_77 y0_110 (some m) (pu m ad h_110 h) = Option.map ((fun S => pu m ad S h)) (P_X4_takesOrder_T110 y0_44 y0_77 y0_110 h_110) := by
  unfold F_X4_takesOrder_T110 P_X4_takesOrder_T110
  simp only [bind_pu, b2_pu, bind_map9, map_bind9, map_pb29, map_ite9, map_some9, map_none9, bind_some9, r_isO, r_aldI W, r_astI W, mv0, mv1, mv2, mv4, mv6, mv9, mv10, mv13, mv14, mv15, mv17, mv18, r_getR0, r_getR1, r_getR2, r_getR4, r_getR6, r_getR9, r_getR10, r_getR13, r_getR14, r_getR15, r_getR17, r_getR18, r_getJ, r_putJ W, r_getI3, r_getI5, r_getI7, r_getI8, r_getI11, r_getI16, r_getI19, r_getI20, r_getI21, r_getI22, r_getI23, r_getI24, r_getI25, r_getI26, r_getI27, r_getI28, r_putI3 W, r_putI5 W, r_putI7 W, r_putI8 W, r_putI11 W, r_putI16 W, r_putI19 W, r_putI20 W, r_putI21 W, r_putI22 W, r_putI23 W, r_putI24 W, r_putI25 W, r_putI26 W, r_putI27 W, r_putI28 W, Sum.map_inl, Sum.map_inr, id_eq, eJ19 W, eJ20 W, e_X4_takes W, e_X4_takesDigit W, e_X4_takesOrder_T125 W]
def P_X4_takesOrder_T77 (y0_44 : Int32) (y0_77 : Int32) (h_77 : MS) : Option MS :=
  if y0_44 = 0 then (
    if y0_77 = 0 then (
      Option.bind (pgI h_77 23) fun v55 =>
      if v55 = (100 : Int32) then (
        P_X4_takesOrder_T110 y0_44 y0_77 (1 : Int32) h_77
      ) else (
        Option.bind (pgI h_77 23) fun v57 =>
        if v57 = (102 : Int32) then (
          P_X4_takesOrder_T110 y0_44 y0_77 (1 : Int32) h_77
        ) else (
          P_X4_takesOrder_T110 y0_44 y0_77 (0 : Int32) h_77
        )
      )
    ) else (
      P_X4_takesOrder_T110 y0_44 y0_77 (1 : Int32) h_77
    )
  ) else (
    P_X4_takesOrder_T110 y0_44 y0_77 (1 : Int32) h_77
  )
set_option maxHeartbeats 1000000 in
theorem e_X4_takesOrder_T77 {m : Nat} {ad : Nat → Nat} {h : HH} (W : WFM m ad h) (y0_44 : Int32) (y0_77 : Int32) (h_77 : MS)  : F_X4_takesOrder_T77 m y0_44 y0_77 (pu m ad h_77 h) = Option.map ((fun S => pu m ad S h)) (P_X4_takesOrder_T77 y0_44 y0_77 h_77) := by
  unfold F_X4_takesOrder_T77 P_X4_takesOrder_T77
  simp only [bind_pu, b2_pu, bind_map9, map_bind9, map_pb29, map_ite9, map_some9, map_none9, bind_some9, r_isO, r_aldI W, r_astI W, mv0, mv1, mv2, mv4, mv6, mv9, mv10, mv13, mv14, mv15, mv17, mv18, r_getR0, r_getR1, r_getR2, r_getR4, r_getR6, r_getR9, r_getR10, r_getR13, r_getR14, r_getR15, r_getR17, r_getR18, r_getJ, r_putJ W, r_getI3, r_getI5, r_getI7, r_getI8, r_getI11, r_getI16, r_getI19, r_getI20, r_getI21, r_getI22, r_getI23, r_getI24, r_getI25, r_getI26, r_getI27, r_getI28, r_putI3 W, r_putI5 W, r_putI7 W, r_putI8 W, r_putI11 W, r_putI16 W, r_putI19 W, r_putI20 W, r_putI21 W, r_putI22 W, r_putI23 W, r_putI24 W, r_putI25 W, r_putI26 W, r_putI27 W, r_putI28 W, Sum.map_inl, Sum.map_inr, id_eq, eJ19 W, eJ20 W, e_X4_takesOrder_T110 W]
def P_X4_takesOrder_T44 (y0_44 : Int32) (h_44 : MS) : Option MS :=
  Option.bind (pgI h_44 23) fun v8 =>
  if v8 = (109 : Int32) then (
    P_X4_takesOrder_T77 y0_44 (1 : Int32) h_44
  ) else (
    Option.bind (pgI h_44 23) fun v60 =>
    if v60 = (108 : Int32) then (
      P_X4_takesOrder_T77 y0_44 (1 : Int32) h_44
    ) else (
      Option.bind (pgI h_44 23) fun v62 =>
      if v62 = (114 : Int32) then (
        P_X4_takesOrder_T77 y0_44 (1 : Int32) h_44
      ) else (
        P_X4_takesOrder_T77 y0_44 (0 : Int32) h_44
      )
    )
  )
set_option maxHeartbeats 1000000 in
theorem e_X4_takesOrder_T44 {m : Nat} {ad : Nat → Nat} {h : HH} (W : WFM m ad h) (y0_44 : Int32) (h_44 : MS)  : F_X4_takesOrder_T44 m y0_44 (pu m ad h_44 h) = Option.map ((fun S => pu m ad S h)) (P_X4_takesOrder_T44 y0_44 h_44) := by
  unfold F_X4_takesOrder_T44 P_X4_takesOrder_T44
  simp only [bind_pu, b2_pu, bind_map9, map_bind9, map_pb29, map_ite9, map_some9, map_none9, bind_some9, r_isO, r_aldI W, r_astI W, mv0, mv1, mv2, mv4, mv6, mv9, mv10, mv13, mv14, mv15, mv17, mv18, r_getR0, r_getR1, r_getR2, r_getR4, r_getR6, r_getR9, r_getR10, r_getR13, r_getR14, r_getR15, r_getR17, r_getR18, r_getJ, r_putJ W, r_getI3, r_getI5, r_getI7, r_getI8, r_getI11, r_getI16, r_getI19, r_getI20, r_getI21, r_getI22, r_getI23, r_getI24, r_getI25, r_getI26, r_getI27, r_getI28, r_putI3 W, r_putI5 W, r_putI7 W, r_putI8 W, r_putI11 W, r_putI16 W, r_putI19 W, r_putI20 W, r_putI21 W, r_putI22 W, r_putI23 W, r_putI24 W, r_putI25 W, r_putI26 W, r_putI27 W, r_putI28 W, Sum.map_inl, Sum.map_inr, id_eq, eJ19 W, eJ20 W, e_X4_takesOrder_T77 W]
def P_X4_takesOrder (h0 : MS) : Option MS :=
  Option.bind (pgI h0 20) fun v1 =>
  Option.bind (piI h0 21 v1) fun h2 =>
  Option.bind (piI h2 22 (1 : Int32)) fun h3 =>
  Option.bind (P_X4_here h3) fun v5 =>
  Option.bind (piI h3 23 v5) fun h6 =>
  Option.bind (pgI h6 23) fun v7 =>
  if v7 = (119 : Int32) then (
    P_X4_takesOrder_T44 (1 : Int32) h6
  ) else (
    Option.bind (pgI h6 23) fun v65 =>
    if v65 = (116 : Int32) then (
      P_X4_takesOrder_T44 (1 : Int32) h6
    ) else (
      P_X4_takesOrder_T44 (0 : Int32) h6
    )
  )
set_option maxHeartbeats 1000000 in
theorem e_X4_takesOrder {m : Nat} {ad : Nat → Nat} {h : HH} (W : WFM m ad h) (h0 : MS)  : F_X4_takesOrder m (pu m ad h0 h) = Option.map ((fun S => pu m ad S h)) (P_X4_takesOrder h0) := by
  unfold F_X4_takesOrder P_X4_takesOrder
  simp only [bind_pu, b2_pu, bind_map9, map_bind9, map_pb29, map_ite9, map_some9, map_none9, bind_some9, r_isO, r_aldI W, r_astI W, mv0, mv1, mv2, mv4, mv6, mv9, mv10, mv13, mv14, mv15, mv17, mv18, r_getR0, r_getR1, r_getR2, r_getR4, r_getR6, r_getR9, r_getR10, r_getR13, r_getR14, r_getR15, r_getR17, r_getR18, r_getJ, r_putJ W, r_getI3, r_getI5, r_getI7, r_getI8, r_getI11, r_getI16, r_getI19, r_getI20, r_getI21, r_getI22, r_getI23, r_getI24, r_getI25, r_getI26, r_getI27, r_getI28, r_putI3 W, r_putI5 W, r_putI7 W, r_putI8 W, r_putI11 W, r_putI16 W, r_putI19 W, r_putI20 W, r_putI21 W, r_putI22 W, r_putI23 W, r_putI24 W, r_putI25 W, r_putI26 W, r_putI27 W, r_putI28 W, Sum.map_inl, Sum.map_inr, id_eq, eJ19 W, eJ20 W, e_X4_here W, e_X4_takesOrder_T44 W]
def P_X4_doesAll_T49 (x1_3 : Int32) (y0_49 : Int32) (h_49 : MS) : Option ((Int32 × MS) ⊕ (Int32 × MS)) :=
  Option.bind (pgI h_49 22) fun v12 =>
  if v12 = 0 then (
    Option.bind (pgI h_49 22) fun v14 =>
    Option.bind (piI h_49 27 (if v14 = 0 then (1 : Int32) else (2 : Int32))) fun h16 =>
    Option.bind (pgI h16 22) fun v17 =>
    if v17 = 0 then (
      Option.bind (pgI h16 20) fun v21 =>
      Option.bind (pgI h16 21) fun v22 =>
      Option.bind (piI h16 28 (v21 - v22)) fun h23 =>
      some (.inl (x1_3, h23))
    ) else (
      Option.bind (piI h16 28 (if y0_49 = (-11 : Int32) then (1 : Int32) else (2 : Int32))) fun h20 =>
      some (.inl (x1_3, h20))
    )
  ) else (
    if y0_49 = (-11 : Int32) then (
      Option.bind (pgI h_49 22) fun v25 =>
      Option.bind (piI h_49 27 (if v25 = 0 then (1 : Int32) else (2 : Int32))) fun h27 =>
      Option.bind (pgI h27 22) fun v28 =>
      if v28 = 0 then (
        Option.bind (pgI h27 20) fun v32 =>
        Option.bind (pgI h27 21) fun v33 =>
        Option.bind (piI h27 28 (v32 - v33)) fun h34 =>
        some (.inl (x1_3, h34))
      ) else (
        Option.bind (piI h27 28 (if y0_49 = (-11 : Int32) then (1 : Int32) else (2 : Int32))) fun h31 =>
        some (.inl (x1_3, h31))
      )
    ) else (
      if y0_49 = (-12 : Int32) then (
        Option.bind (pgI h_49 22) fun v36 =>
        Option.bind (piI h_49 27 (if v36 = 0 then (1 : Int32) else (2 : Int32))) fun h38 =>
        Option.bind (pgI h38 22) fun v39 =>
        if v39 = 0 then (
          Option.bind (pgI h38 20) fun v43 =>
          Option.bind (pgI h38 21) fun v44 =>
          Option.bind (piI h38 28 (v43 - v44)) fun h45 =>
          some (.inl (x1_3, h45))
        ) else (
          Option.bind (piI h38 28 (if y0_49 = (-11 : Int32) then (1 : Int32) else (2 : Int32))) fun h42 =>
          some (.inl (x1_3, h42))
        )
      ) else (
        some (.inl ((x1_3 + (1 : Int32)), h_49))
      )
    )
  )
set_option maxHeartbeats 1000000 in
theorem e_X4_doesAll_T49 {m : Nat} {ad : Nat → Nat} {h : HH} (W : WFM m ad h) (x1_3 : Int32) (y0_49 : Int32) (h_49 : MS)  : F_X4_doesAll_T49 m x1_3 y0_49 (pu m ad h_49 h) = Option.map (Sum.map (fun q => (q.1, pu m ad q.2 h)) (fun q => (q.1, pu m ad q.2 h))) (P_X4_doesAll_T49 x1_3 y0_49 h_49) := by
  unfold F_X4_doesAll_T49 P_X4_doesAll_T49
  simp only [bind_pu, b2_pu, bind_map9, map_bind9, map_pb29, map_ite9, map_some9, map_none9, bind_some9, r_isO, r_aldI W, r_astI W, mv0, mv1, mv2, mv4, mv6, mv9, mv10, mv13, mv14, mv15, mv17, mv18, r_getR0, r_getR1, r_getR2, r_getR4, r_getR6, r_getR9, r_getR10, r_getR13, r_getR14, r_getR15, r_getR17, r_getR18, r_getJ, r_putJ W, r_getI3, r_getI5, r_getI7, r_getI8, r_getI11, r_getI16, r_getI19, r_getI20, r_getI21, r_getI22, r_getI23, r_getI24, r_getI25, r_getI26, r_getI27, r_getI28, r_putI3 W, r_putI5 W, r_putI7 W, r_putI8 W, r_putI11 W, r_putI16 W, r_putI19 W, r_putI20 W, r_putI21 W, r_putI22 W, r_putI23 W, r_putI24 W, r_putI25 W, r_putI26 W, r_putI27 W, r_putI28 W, Sum.map_inl, Sum.map_inr, id_eq, eJ19 W, eJ20 W]
def P_X4_doesAll_B12 (x1_3 : Int32) (h_3 : MS) : Option ((Int32 × MS) ⊕ (Int32 × MS)) :=
  Option.bind (pgI h_3 27) fun v4 =>
  if v4 = 0 then (
    Option.bind (pgI h_3 20) fun v6 =>
    Option.bind (pgI h_3 7) fun v7 =>
    if v7 ≤ v6 then (
      some (.inr (x1_3, h_3))
    ) else (
      Option.bind (P_X4_takesOrder h_3) fun h10 =>
      Option.bind (pgI h10 22) fun v11 =>
      if v11 = 0 then (
        P_X4_doesAll_T49 x1_3 (0 : Int32) h10
      ) else (
        pb2 (P_X4_doesOrder h10) fun v49 h48 =>
        P_X4_doesAll_T49 x1_3 v49 h48
      )
    )
  ) else (
    some (.inr (x1_3, h_3))
  )
set_option maxHeartbeats 1000000 in
theorem e_X4_doesAll_B12 {m : Nat} {ad : Nat → Nat} {h : HH} (W : WFM m ad h) (x1_3 : Int32) (h_3 : MS)  : F_X4_doesAll_B12 m x1_3 (pu m ad h_3 h) = Option.map (Sum.map (fun q => (q.1, pu m ad q.2 h)) (fun q => (q.1, pu m ad q.2 h))) (P_X4_doesAll_B12 x1_3 h_3) := by
  unfold F_X4_doesAll_B12 P_X4_doesAll_B12
  simp only [bind_pu, b2_pu, bind_map9, map_bind9, map_pb29, map_ite9, map_some9, map_none9, bind_some9, r_isO, r_aldI W, r_astI W, mv0, mv1, mv2, mv4, mv6, mv9, mv10, mv13, mv14, mv15, mv17, mv18, r_getR0, r_getR1, r_getR2, r_getR4, r_getR6, r_getR9, r_getR10, r_getR13, r_getR14, r_getR15, r_getR17, r_getR18, r_getJ, r_putJ W, r_getI3, r_getI5, r_getI7, r_getI8, r_getI11, r_getI16, r_getI19, r_getI20, r_getI21, r_getI22, r_getI23, r_getI24, r_getI25, r_getI26, r_getI27, r_getI28, r_putI3 W, r_putI5 W, r_putI7 W, r_putI8 W, r_putI11 W, r_putI16 W, r_putI19 W, r_putI20 W, r_putI21 W, r_putI22 W, r_putI23 W, r_putI24 W, r_putI25 W, r_putI26 W, r_putI27 W, r_putI28 W, Sum.map_inl, Sum.map_inr, id_eq, eJ19 W, eJ20 W, e_X4_doesAll_T49 W, e_X4_doesOrder W, e_X4_takesOrder W]
theorem l_X4_doesAll_B12 {m : Nat} {ad : Nat → Nat} {h : HH} (W : WFM m ad h)   (n : Nat) (x1_3 : Int32) (h_3 : MS) : lp (fun z => F_X4_doesAll_B12 m z.1 z.2) n (x1_3, pu m ad h_3 h) = Option.map (fun q => (q.1, pu m ad q.2 h)) (lp (fun z => P_X4_doesAll_B12  z.1 z.2) n (x1_3, h_3)) := by
  have := lp_map9 (B := fun z => F_X4_doesAll_B12 m z.1 z.2) (B' := fun z => P_X4_doesAll_B12  z.1 z.2) (fun q => (q.1, pu m ad q.2 h)) (fun q => (q.1, pu m ad q.2 h)) (fun z => e_X4_doesAll_B12 W  z.1 z.2 ) n (x1_3, h_3)
  exact this
def P_X4_doesAll (h0 : MS) : Option (Int32 × MS) :=
  Option.bind (piI h0 27 (0 : Int32)) fun h1 =>
  Option.bind (piI h1 20 (0 : Int32)) fun h2 =>
  Option.bind (lp (fun z => P_X4_doesAll_B12 z.1 z.2) 100000 ((0 : Int32), h2)) fun q0_9 =>
  some (q0_9.1, q0_9.2)
set_option maxHeartbeats 1000000 in
theorem e_X4_doesAll {m : Nat} {ad : Nat → Nat} {h : HH} (W : WFM m ad h) (h0 : MS)  : F_X4_doesAll m (pu m ad h0 h) = Option.map ((fun q => (q.1, pu m ad q.2 h))) (P_X4_doesAll h0) := by
  unfold F_X4_doesAll P_X4_doesAll
  simp only [bind_pu, b2_pu, bind_map9, map_bind9, map_pb29, map_ite9, map_some9, map_none9, bind_some9, r_isO, r_aldI W, r_astI W, mv0, mv1, mv2, mv4, mv6, mv9, mv10, mv13, mv14, mv15, mv17, mv18, r_getR0, r_getR1, r_getR2, r_getR4, r_getR6, r_getR9, r_getR10, r_getR13, r_getR14, r_getR15, r_getR17, r_getR18, r_getJ, r_putJ W, r_getI3, r_getI5, r_getI7, r_getI8, r_getI11, r_getI16, r_getI19, r_getI20, r_getI21, r_getI22, r_getI23, r_getI24, r_getI25, r_getI26, r_getI27, r_getI28, r_putI3 W, r_putI5 W, r_putI7 W, r_putI8 W, r_putI11 W, r_putI16 W, r_putI19 W, r_putI20 W, r_putI21 W, r_putI22 W, r_putI23 W, r_putI24 W, r_putI25 W, r_putI26 W, r_putI27 W, r_putI28 W, Sum.map_inl, Sum.map_inr, id_eq, eJ19 W, eJ20 W, l_X4_doesAll_B12 W]
def P_X4_faultTold (a1 : Int32) (h0 : MS) : Option (Int32 × MS) :=
  Option.bind (piI h0 8 (0 : Int32)) fun h1 =>
  Option.bind (P_X4_copies 0 (0 : Int32) 1 (0 : Int32) h1) fun h4 =>
  pb2 (P_X4_doesAll h4) fun v7 h6 =>
  Option.bind (P_X4_copies 1 (0 : Int32) 0 (0 : Int32) h6) fun h10 =>
  Option.bind (pgI h10 27) fun v11 =>
  if v11 = 0 then (
    pb2 (P_X4_fails (1 : Int32) h10) fun v20 h19 =>
    some (v20, h19)
  ) else (
    if a1 = 0 then (
      Option.bind (pgI h10 21) fun v17 =>
      some (v17, h10)
    ) else (
      if a1 = (1 : Int32) then (
        Option.bind (pgI h10 27) fun v16 =>
        some (v16, h10)
      ) else (
        Option.bind (pgI h10 28) fun v15 =>
        some (v15, h10)
      )
    )
  )
set_option maxHeartbeats 1000000 in
theorem e_X4_faultTold {m : Nat} {ad : Nat → Nat} {h : HH} (W : WFM m ad h) (a1 : Int32) (h0 : MS)  : F_X4_faultTold m a1 (pu m ad h0 h) = Option.map ((fun q => (q.1, pu m ad q.2 h))) (P_X4_faultTold a1 h0) := by
  unfold F_X4_faultTold P_X4_faultTold
  simp only [bind_pu, b2_pu, bind_map9, map_bind9, map_pb29, map_ite9, map_some9, map_none9, bind_some9, r_isO, r_aldI W, r_astI W, mv0, mv1, mv2, mv4, mv6, mv9, mv10, mv13, mv14, mv15, mv17, mv18, r_getR0, r_getR1, r_getR2, r_getR4, r_getR6, r_getR9, r_getR10, r_getR13, r_getR14, r_getR15, r_getR17, r_getR18, r_getJ, r_putJ W, r_getI3, r_getI5, r_getI7, r_getI8, r_getI11, r_getI16, r_getI19, r_getI20, r_getI21, r_getI22, r_getI23, r_getI24, r_getI25, r_getI26, r_getI27, r_getI28, r_putI3 W, r_putI5 W, r_putI7 W, r_putI8 W, r_putI11 W, r_putI16 W, r_putI19 W, r_putI20 W, r_putI21 W, r_putI22 W, r_putI23 W, r_putI24 W, r_putI25 W, r_putI26 W, r_putI27 W, r_putI28 W, Sum.map_inl, Sum.map_inr, id_eq, eJ19 W, eJ20 W, e_X4_copies W, e_X4_doesAll W, e_X4_fails W]
def P_X4_faultPosition (h0 : MS) : Option (Int32 × MS) :=

  pb2 (P_X4_faultTold (0 : Int32) h0) fun v3 h2 =>
  some (v3, h2)
set_option maxHeartbeats 1000000 in
theorem e_X4_faultPosition {m : Nat} {ad : Nat → Nat} {h : HH} (W : WFM m ad h) (h0 : MS)  : F_X4_faultPosition m (pu m ad h0 h) = Option.map ((fun q => (q.1, pu m ad q.2 h))) (P_X4_faultPosition h0) := by
  unfold F_X4_faultPosition P_X4_faultPosition
  simp only [bind_pu, b2_pu, bind_map9, map_bind9, map_pb29, map_ite9, map_some9, map_none9, bind_some9, r_isO, r_aldI W, r_astI W, mv0, mv1, mv2, mv4, mv6, mv9, mv10, mv13, mv14, mv15, mv17, mv18, r_getR0, r_getR1, r_getR2, r_getR4, r_getR6, r_getR9, r_getR10, r_getR13, r_getR14, r_getR15, r_getR17, r_getR18, r_getJ, r_putJ W, r_getI3, r_getI5, r_getI7, r_getI8, r_getI11, r_getI16, r_getI19, r_getI20, r_getI21, r_getI22, r_getI23, r_getI24, r_getI25, r_getI26, r_getI27, r_getI28, r_putI3 W, r_putI5 W, r_putI7 W, r_putI8 W, r_putI11 W, r_putI16 W, r_putI19 W, r_putI20 W, r_putI21 W, r_putI22 W, r_putI23 W, r_putI24 W, r_putI25 W, r_putI26 W, r_putI27 W, r_putI28 W, Sum.map_inl, Sum.map_inr, id_eq, eJ19 W, eJ20 W, e_X4_faultTold W]
def P_X4_faultReason (h0 : MS) : Option (Int32 × MS) :=

  pb2 (P_X4_faultTold (1 : Int32) h0) fun v3 h2 =>
  some (v3, h2)
set_option maxHeartbeats 1000000 in
theorem e_X4_faultReason {m : Nat} {ad : Nat → Nat} {h : HH} (W : WFM m ad h) (h0 : MS)  : F_X4_faultReason m (pu m ad h0 h) = Option.map ((fun q => (q.1, pu m ad q.2 h))) (P_X4_faultReason h0) := by
  unfold F_X4_faultReason P_X4_faultReason
  simp only [bind_pu, b2_pu, bind_map9, map_bind9, map_pb29, map_ite9, map_some9, map_none9, bind_some9, r_isO, r_aldI W, r_astI W, mv0, mv1, mv2, mv4, mv6, mv9, mv10, mv13, mv14, mv15, mv17, mv18, r_getR0, r_getR1, r_getR2, r_getR4, r_getR6, r_getR9, r_getR10, r_getR13, r_getR14, r_getR15, r_getR17, r_getR18, r_getJ, r_putJ W, r_getI3, r_getI5, r_getI7, r_getI8, r_getI11, r_getI16, r_getI19, r_getI20, r_getI21, r_getI22, r_getI23, r_getI24, r_getI25, r_getI26, r_getI27, r_getI28, r_putI3 W, r_putI5 W, r_putI7 W, r_putI8 W, r_putI11 W, r_putI16 W, r_putI19 W, r_putI20 W, r_putI21 W, r_putI22 W, r_putI23 W, r_putI24 W, r_putI25 W, r_putI26 W, r_putI27 W, r_putI28 W, Sum.map_inl, Sum.map_inr, id_eq, eJ19 W, eJ20 W, e_X4_faultTold W]
def P_X4_faultCause (h0 : MS) : Option (Int32 × MS) :=

  pb2 (P_X4_faultTold (2 : Int32) h0) fun v3 h2 =>
  some (v3, h2)
set_option maxHeartbeats 1000000 in
theorem e_X4_faultCause {m : Nat} {ad : Nat → Nat} {h : HH} (W : WFM m ad h) (h0 : MS)  : F_X4_faultCause m (pu m ad h0 h) = Option.map ((fun q => (q.1, pu m ad q.2 h))) (P_X4_faultCause h0) := by
  unfold F_X4_faultCause P_X4_faultCause
  simp only [bind_pu, b2_pu, bind_map9, map_bind9, map_pb29, map_ite9, map_some9, map_none9, bind_some9, r_isO, r_aldI W, r_astI W, mv0, mv1, mv2, mv4, mv6, mv9, mv10, mv13, mv14, mv15, mv17, mv18, r_getR0, r_getR1, r_getR2, r_getR4, r_getR6, r_getR9, r_getR10, r_getR13, r_getR14, r_getR15, r_getR17, r_getR18, r_getJ, r_putJ W, r_getI3, r_getI5, r_getI7, r_getI8, r_getI11, r_getI16, r_getI19, r_getI20, r_getI21, r_getI22, r_getI23, r_getI24, r_getI25, r_getI26, r_getI27, r_getI28, r_putI3 W, r_putI5 W, r_putI7 W, r_putI8 W, r_putI11 W, r_putI16 W, r_putI19 W, r_putI20 W, r_putI21 W, r_putI22 W, r_putI23 W, r_putI24 W, r_putI25 W, r_putI26 W, r_putI27 W, r_putI28 W, Sum.map_inl, Sum.map_inr, id_eq, eJ19 W, eJ20 W, e_X4_faultTold W]
def P_X4_play (h0 : MS) : Option (Int32 × MS) :=

  Option.bind (P_X4_begins h0) fun h2 =>
  pb2 (P_X4_doesAll h2) fun v5 h4 =>
  Option.bind (pgI h4 27) fun v6 =>
  if v6 ≤ 0 then (
    Option.bind (P_X4_records h4) fun h9 =>
    some (v5, h9)
  ) else (
    Option.bind (P_X4_copies 1 (0 : Int32) 0 (0 : Int32) h4) fun h12 =>
    pb2 (P_X4_fails (1 : Int32) h12) fun v15 h14 =>
    some (v15, h14)
  )
set_option maxHeartbeats 1000000 in
theorem e_X4_play {m : Nat} {ad : Nat → Nat} {h : HH} (W : WFM m ad h) (h0 : MS)  : F_X4_play m (pu m ad h0 h) = Option.map ((fun q => (q.1, pu m ad q.2 h))) (P_X4_play h0) := by
  unfold F_X4_play P_X4_play
  simp only [bind_pu, b2_pu, bind_map9, map_bind9, map_pb29, map_ite9, map_some9, map_none9, bind_some9, r_isO, r_aldI W, r_astI W, mv0, mv1, mv2, mv4, mv6, mv9, mv10, mv13, mv14, mv15, mv17, mv18, r_getR0, r_getR1, r_getR2, r_getR4, r_getR6, r_getR9, r_getR10, r_getR13, r_getR14, r_getR15, r_getR17, r_getR18, r_getJ, r_putJ W, r_getI3, r_getI5, r_getI7, r_getI8, r_getI11, r_getI16, r_getI19, r_getI20, r_getI21, r_getI22, r_getI23, r_getI24, r_getI25, r_getI26, r_getI27, r_getI28, r_putI3 W, r_putI5 W, r_putI7 W, r_putI8 W, r_putI11 W, r_putI16 W, r_putI19 W, r_putI20 W, r_putI21 W, r_putI22 W, r_putI23 W, r_putI24 W, r_putI25 W, r_putI26 W, r_putI27 W, r_putI28 W, Sum.map_inl, Sum.map_inr, id_eq, eJ19 W, eJ20 W, e_X4_begins W, e_X4_copies W, e_X4_doesAll W, e_X4_fails W, e_X4_records W]
