def F_L_law_A1936 (a1 : Option Nat) (k1_8 : Option Nat) (k2_8 : Option Nat) (k3_8 : Option Nat) (x4_8 : Int32) (h_8 : HH) : Option ((Int32 × HH) ⊕ HH) :=
  Option.bind (aldI h_8 0 a1 (x4_8 + (1 : Int32))) fun v404 =>
  b2 (F_X0_isWithin k1_8 v404 k3_8 h_8) fun v406 h405 =>
  Option.bind (aldI h405 0 a1 (x4_8 + (1 : Int32))) fun v407 =>
  Option.bind (isO h405 1 k2_8) fun ob408 =>
  b2 (F_X4_isWithin ob408 v407 h405) fun v410 h409 =>
  Option.bind (isO h409 1 k2_8) fun ob411 =>
  Option.bind (F_X4_thrown ob411 h409) fun v412 =>
  if v412 = v406 then (
    if v406 = 0 then (
      Option.bind (aldJ h409 4 k3_8 (0 : Int32)) fun v415 =>
      if (lg_cmp v415 (if v410 = 0 then (0 : Int64) else (1 : Int64))) = 0 then (
        some (.inl ((x4_8 + (5 : Int32)), h409))
      ) else (
        none
      )
    ) else (
      some (.inl ((x4_8 + (5 : Int32)), h409))
    )
  ) else (
    none
  )
set_option maxHeartbeats 4000000 in
theorem w_L_law_A1936 {p : Program} {l : Launch} {e : Env} {R : Room} {s : State} {m : MethodId} {args : Array Value} {below : List Frame} {meth : Method} {c : Code} {Q : State → Prop} {D : va_G} {dA : Nat → ClassId} {h0 : HH} (hl : l.stackTraces = false) (X : FX p l s m args meth R c cL_law 8 "FerryClocksLaw" D dA h0 []) (hRf : R.frames = 8192) (hRl : R.locals = 100000) (a1 : Option Nat) (k1_8 : Option Nat) (k2_8 : Option Nat) (k3_8 : Option Nat) (x4_8 : Int32) (h_8 : HH) (o : (Int32 × HH) ⊕ HH) : F_L_law_A1936 a1 k1_8 k2_8 k3_8 x4_8 h_8 = some o → (∀ y, o = .inl y → (fun z => G p l e R s m args below meth c Q D dA h0 8 z.2 23 [some (va_rf a1), some (va_rf k1_8), some (va_rf k2_8), some (va_rf k3_8), some (.int z.1), none, none, none] []) y) → (∀ r, o = .inr r → (fun z => G p l e R s m args below meth c Q D dA h0 8 z 3168 [none, none, none, none, none, none, none, none] []) r) → G p l e R s m args below meth c Q D dA h0 8 h_8 1936 [some (va_rf a1), some (va_rf k1_8), some (va_rf k2_8), some (va_rf k3_8), some (.int x4_8), none, none, none] [] := by
  intro hF hgo hr
  unfold F_L_law_A1936 at hF
  refine g_aload_n X dL_law_1936 rfl rfl ?_
  refine g_aload_n X dL_law_1937 rfl rfl ?_
  refine g_iload X dL_law_1938 rfl ?_
  refine g_iconst (v := (1 : Int32)) X dL_law_1940 (by decide) ?_
  refine g_iadd X dL_law_1941 ?_
  obtain ⟨v404, ev404, hF⟩ := bnd hF
  refine g_iald X ev404 dL_law_1942 ?_
  refine g_aload_n X dL_law_1943 rfl rfl ?_
  obtain ⟨v406, h405, eh405, hF⟩ := b2_some hF
  refine g_callS X (w_X0_isWithin l hl D dA h_8 k1_8 v404 k3_8 v406 h405 eh405) q1339 q1340 q91 q1341 okn_X0_isWithin ⟨by rw [hRf]; exact Nat.le_of_ble_eq_true rfl, by rw [hRl]; exact Nat.le_of_ble_eq_true rfl⟩ (As := [va_rf k1_8, .int v404, va_rf k3_8]) (rest := []) rfl (by first | exact Nat.le_of_ble_eq_true rfl | simp [cat_rf, cat_i, cat_j, cat_f, cat_d]) dL_law_1944 (ac_v ?_)
  refine g_istore (L' := [some (va_rf a1), some (va_rf k1_8), some (va_rf k2_8), some (va_rf k3_8), some (.int x4_8), some (.int v406), none, none]) X dL_law_1947 (Nat.le_of_ble_eq_true rfl) (by first | rfl | simp [stL, rm1, clr2, cat_rf, cat_i, cat_j, cat_f, cat_d]) ?_
  refine g_aload_n X dL_law_1949 rfl rfl ?_
  refine g_aload_n X dL_law_1950 rfl rfl ?_
  refine g_iload X dL_law_1951 rfl ?_
  refine g_iconst (v := (1 : Int32)) X dL_law_1953 (by decide) ?_
  refine g_iadd X dL_law_1954 ?_
  obtain ⟨v407, ev407, hF⟩ := bnd hF
  refine g_iald X ev407 dL_law_1955 ?_
  obtain ⟨ob408, eob408, hF⟩ := bnd hF
  obtain ⟨v410, h409, eh409, hF⟩ := b2_some hF
  refine g_callV X eob408 rfl rfl (w_X4_isWithin l hl D dA h405 ob408 v407 v410 h409 eh409) q2159 q2160 q2161 q103 q2162 okn_X4_isWithin ⟨by rw [hRf]; exact Nat.le_of_ble_eq_true rfl, by rw [hRl]; exact Nat.le_of_ble_eq_true rfl⟩ (As := [.int v407]) (rest := []) rfl (by first | exact Nat.le_of_ble_eq_true rfl | simp [cat_rf, cat_i, cat_j, cat_f, cat_d]) dL_law_1956 (ac_v ?_)
  refine g_istore (L' := [some (va_rf a1), some (va_rf k1_8), some (va_rf k2_8), some (va_rf k3_8), some (.int x4_8), some (.int v406), some (.int v410), none]) X dL_law_1959 (Nat.le_of_ble_eq_true rfl) (by first | rfl | simp [stL, rm1, clr2, cat_rf, cat_i, cat_j, cat_f, cat_d]) ?_
  refine g_aload_n X dL_law_1961 rfl rfl ?_
  obtain ⟨ob411, eob411, hF⟩ := bnd hF
  obtain ⟨v412, ev412, hF⟩ := bnd hF
  refine g_callV X eob411 rfl rfl (w_X4_thrown l hl D dA h409 ob411  v412 ev412) q1851 q1852 q1853 q103 q1854 okn_X4_thrown ⟨by rw [hRf]; exact Nat.le_of_ble_eq_true rfl, by rw [hRl]; exact Nat.le_of_ble_eq_true rfl⟩ (As := []) (rest := []) rfl (by first | exact Nat.le_of_ble_eq_true rfl | simp [cat_rf, cat_i, cat_j, cat_f, cat_d]) dL_law_1962 (ac_v ?_)
  refine g_iload X dL_law_1965 rfl ?_
  refine g_icmp_eq X 1972 dL_law_1967 (by decide) (fun c413 => ?_) (fun c413 => ?_)
  · have hF := (if_pos c413).symm.trans hF
    refine g_iload X dL_law_1972 rfl ?_
    refine g_if_ne X 1996 dL_law_1974 (by decide) (fun c414 => ?_) (fun c414 => ?_)
    · have hF := (if_neg c414).symm.trans hF
      refine g_goto X 3162 dL_law_1996 (by decide) ?_
      refine g_iinc (v := (x4_8 + (5 : Int32))) (L' := [some (va_rf a1), some (va_rf k1_8), some (va_rf k2_8), some (va_rf k3_8), some (.int (x4_8 + (5 : Int32))), some (.int v406), some (.int v410), none]) X dL_law_3162 (Nat.le_of_ble_eq_true rfl) rfl rfl (by first | rfl | simp [stL, rm1, clr2, cat_rf, cat_i, cat_j, cat_f, cat_d]) ?_
      refine g_goto X 23 dL_law_3165 (by decide) ?_
      refine G.drop [true, true, true, true, true, false, false, false] rfl ?_
      cases hF
      exact hgo _ rfl
    · have hF := (if_pos c414).symm.trans hF
      refine g_aload_n X dL_law_1977 rfl rfl ?_
      refine g_iconst (v := (0 : Int32)) X dL_law_1978 (by decide) ?_
      obtain ⟨v415, ev415, hF⟩ := bnd hF
      refine g_lald X ev415 dL_law_1979 ?_
      refine g_iload X dL_law_1980 rfl ?_
      suffices K : G p l e R s m args below meth c Q D dA h0 8 h409 1990 [some (va_rf a1), some (va_rf k1_8), some (va_rf k2_8), some (va_rf k3_8), some (.int x4_8), none, none, none] [.long (if v410 = 0 then (0 : Int64) else (1 : Int64)), .long v415] by
        refine g_if_eq X 1989 dL_law_1982 (by decide) (fun c416 => ?_) (fun c416 => ?_)
        · (try simp only [if_pos c416] at K)
          refine g_lconst (v := (0 : Int64)) X dL_law_1989 (by decide) ?_
          refine G.drop [true, true, true, true, true, false, false, false] rfl ?_
          first | exact K | (simp only [if_pos c416]; exact K)
        · (try simp only [if_neg c416] at K)
          refine g_lconst (v := (1 : Int64)) X dL_law_1985 (by decide) ?_
          refine g_goto X 1990 dL_law_1986 (by decide) ?_
          refine G.drop [true, true, true, true, true, false, false, false] rfl ?_
          first | exact K | (simp only [if_neg c416]; exact K)
      refine g_lcmp X dL_law_1990 ?_
      refine g_if_eq X 1996 dL_law_1991 (by decide) (fun c417 => ?_) (fun c417 => ?_)
      · have hF := (if_pos c417).symm.trans hF
        refine g_goto X 3162 dL_law_1996 (by decide) ?_
        refine g_iinc (v := (x4_8 + (5 : Int32))) (L' := [some (va_rf a1), some (va_rf k1_8), some (va_rf k2_8), some (va_rf k3_8), some (.int (x4_8 + (5 : Int32))), none, none, none]) X dL_law_3162 (Nat.le_of_ble_eq_true rfl) rfl rfl (by first | rfl | simp [stL, rm1, clr2, cat_rf, cat_i, cat_j, cat_f, cat_d]) ?_
        refine g_goto X 23 dL_law_3165 (by decide) ?_
        cases hF
        exact hgo _ rfl
      · have hF := (if_neg c417).symm.trans hF
        cases hF
  · have hF := (if_neg c413).symm.trans hF
    cases hF
def F_L_law_A1999 (a1 : Option Nat) (k1_8 : Option Nat) (k2_8 : Option Nat) (k3_8 : Option Nat) (x4_8 : Int32) (h_8 : HH) : Option ((Int32 × HH) ⊕ HH) :=
  Option.bind (aldI h_8 0 a1 (x4_8 + (1 : Int32))) fun v418 =>
  b2 (F_X0_momentsBeyond k1_8 v418 k3_8 h_8) fun v420 h419 =>
  Option.bind (aldI h419 0 a1 (x4_8 + (1 : Int32))) fun v421 =>
  Option.bind (isO h419 1 k2_8) fun ob422 =>
  b2 (F_X4_momentsBeyond ob422 v421 h419) fun v424 h423 =>
  Option.bind (isO h423 1 k2_8) fun ob425 =>
  Option.bind (F_X4_thrown ob425 h423) fun v426 =>
  if v426 = v420 then (
    if v420 = 0 then (
      Option.bind (aldJ h423 4 k3_8 (0 : Int32)) fun v429 =>
      if (lg_cmp v429 (v424.toInt64)) = 0 then (
        some (.inl ((x4_8 + (5 : Int32)), h423))
      ) else (
        none
      )
    ) else (
      some (.inl ((x4_8 + (5 : Int32)), h423))
    )
  ) else (
    none
  )
set_option maxHeartbeats 4000000 in
theorem w_L_law_A1999 {p : Program} {l : Launch} {e : Env} {R : Room} {s : State} {m : MethodId} {args : Array Value} {below : List Frame} {meth : Method} {c : Code} {Q : State → Prop} {D : va_G} {dA : Nat → ClassId} {h0 : HH} (hl : l.stackTraces = false) (X : FX p l s m args meth R c cL_law 8 "FerryClocksLaw" D dA h0 []) (hRf : R.frames = 8192) (hRl : R.locals = 100000) (a1 : Option Nat) (k1_8 : Option Nat) (k2_8 : Option Nat) (k3_8 : Option Nat) (x4_8 : Int32) (h_8 : HH) (o : (Int32 × HH) ⊕ HH) : F_L_law_A1999 a1 k1_8 k2_8 k3_8 x4_8 h_8 = some o → (∀ y, o = .inl y → (fun z => G p l e R s m args below meth c Q D dA h0 8 z.2 23 [some (va_rf a1), some (va_rf k1_8), some (va_rf k2_8), some (va_rf k3_8), some (.int z.1), none, none, none] []) y) → (∀ r, o = .inr r → (fun z => G p l e R s m args below meth c Q D dA h0 8 z 3168 [none, none, none, none, none, none, none, none] []) r) → G p l e R s m args below meth c Q D dA h0 8 h_8 1999 [some (va_rf a1), some (va_rf k1_8), some (va_rf k2_8), some (va_rf k3_8), some (.int x4_8), none, none, none] [] := by
  intro hF hgo hr
  unfold F_L_law_A1999 at hF
  refine g_aload_n X dL_law_1999 rfl rfl ?_
  refine g_aload_n X dL_law_2000 rfl rfl ?_
  refine g_iload X dL_law_2001 rfl ?_
  refine g_iconst (v := (1 : Int32)) X dL_law_2003 (by decide) ?_
  refine g_iadd X dL_law_2004 ?_
  obtain ⟨v418, ev418, hF⟩ := bnd hF
  refine g_iald X ev418 dL_law_2005 ?_
  refine g_aload_n X dL_law_2006 rfl rfl ?_
  obtain ⟨v420, h419, eh419, hF⟩ := b2_some hF
  refine g_callS X (w_X0_momentsBeyond l hl D dA h_8 k1_8 v418 k3_8 v420 h419 eh419) q1354 q1355 q91 q1356 okn_X0_momentsBeyond ⟨by rw [hRf]; exact Nat.le_of_ble_eq_true rfl, by rw [hRl]; exact Nat.le_of_ble_eq_true rfl⟩ (As := [va_rf k1_8, .int v418, va_rf k3_8]) (rest := []) rfl (by first | exact Nat.le_of_ble_eq_true rfl | simp [cat_rf, cat_i, cat_j, cat_f, cat_d]) dL_law_2007 (ac_v ?_)
  refine g_istore (L' := [some (va_rf a1), some (va_rf k1_8), some (va_rf k2_8), some (va_rf k3_8), some (.int x4_8), some (.int v420), none, none]) X dL_law_2010 (Nat.le_of_ble_eq_true rfl) (by first | rfl | simp [stL, rm1, clr2, cat_rf, cat_i, cat_j, cat_f, cat_d]) ?_
  refine g_aload_n X dL_law_2012 rfl rfl ?_
  refine g_aload_n X dL_law_2013 rfl rfl ?_
  refine g_iload X dL_law_2014 rfl ?_
  refine g_iconst (v := (1 : Int32)) X dL_law_2016 (by decide) ?_
  refine g_iadd X dL_law_2017 ?_
  obtain ⟨v421, ev421, hF⟩ := bnd hF
  refine g_iald X ev421 dL_law_2018 ?_
  obtain ⟨ob422, eob422, hF⟩ := bnd hF
  obtain ⟨v424, h423, eh423, hF⟩ := b2_some hF
  refine g_callV X eob422 rfl rfl (w_X4_momentsBeyond l hl D dA h419 ob422 v421 v424 h423 eh423) q2170 q2171 q2172 q103 q2173 okn_X4_momentsBeyond ⟨by rw [hRf]; exact Nat.le_of_ble_eq_true rfl, by rw [hRl]; exact Nat.le_of_ble_eq_true rfl⟩ (As := [.int v421]) (rest := []) rfl (by first | exact Nat.le_of_ble_eq_true rfl | simp [cat_rf, cat_i, cat_j, cat_f, cat_d]) dL_law_2019 (ac_v ?_)
  refine g_istore (L' := [some (va_rf a1), some (va_rf k1_8), some (va_rf k2_8), some (va_rf k3_8), some (.int x4_8), some (.int v420), some (.int v424), none]) X dL_law_2022 (Nat.le_of_ble_eq_true rfl) (by first | rfl | simp [stL, rm1, clr2, cat_rf, cat_i, cat_j, cat_f, cat_d]) ?_
  refine g_aload_n X dL_law_2024 rfl rfl ?_
  obtain ⟨ob425, eob425, hF⟩ := bnd hF
  obtain ⟨v426, ev426, hF⟩ := bnd hF
  refine g_callV X eob425 rfl rfl (w_X4_thrown l hl D dA h423 ob425  v426 ev426) q1851 q1852 q1853 q103 q1854 okn_X4_thrown ⟨by rw [hRf]; exact Nat.le_of_ble_eq_true rfl, by rw [hRl]; exact Nat.le_of_ble_eq_true rfl⟩ (As := []) (rest := []) rfl (by first | exact Nat.le_of_ble_eq_true rfl | simp [cat_rf, cat_i, cat_j, cat_f, cat_d]) dL_law_2025 (ac_v ?_)
  refine g_iload X dL_law_2028 rfl ?_
  refine g_icmp_eq X 2035 dL_law_2030 (by decide) (fun c427 => ?_) (fun c427 => ?_)
  · have hF := (if_pos c427).symm.trans hF
    refine g_iload X dL_law_2035 rfl ?_
    refine g_if_ne X 2052 dL_law_2037 (by decide) (fun c428 => ?_) (fun c428 => ?_)
    · have hF := (if_neg c428).symm.trans hF
      refine g_goto X 3162 dL_law_2052 (by decide) ?_
      refine g_iinc (v := (x4_8 + (5 : Int32))) (L' := [some (va_rf a1), some (va_rf k1_8), some (va_rf k2_8), some (va_rf k3_8), some (.int (x4_8 + (5 : Int32))), some (.int v420), some (.int v424), none]) X dL_law_3162 (Nat.le_of_ble_eq_true rfl) rfl rfl (by first | rfl | simp [stL, rm1, clr2, cat_rf, cat_i, cat_j, cat_f, cat_d]) ?_
      refine g_goto X 23 dL_law_3165 (by decide) ?_
      refine G.drop [true, true, true, true, true, false, false, false] rfl ?_
      cases hF
      exact hgo _ rfl
    · have hF := (if_pos c428).symm.trans hF
      refine g_aload_n X dL_law_2040 rfl rfl ?_
      refine g_iconst (v := (0 : Int32)) X dL_law_2041 (by decide) ?_
      obtain ⟨v429, ev429, hF⟩ := bnd hF
      refine g_lald X ev429 dL_law_2042 ?_
      refine g_iload X dL_law_2043 rfl ?_
      refine g_i2l X dL_law_2045 ?_
      refine g_lcmp X dL_law_2046 ?_
      refine g_if_eq X 2052 dL_law_2047 (by decide) (fun c430 => ?_) (fun c430 => ?_)
      · have hF := (if_pos c430).symm.trans hF
        refine g_goto X 3162 dL_law_2052 (by decide) ?_
        refine g_iinc (v := (x4_8 + (5 : Int32))) (L' := [some (va_rf a1), some (va_rf k1_8), some (va_rf k2_8), some (va_rf k3_8), some (.int (x4_8 + (5 : Int32))), some (.int v420), some (.int v424), none]) X dL_law_3162 (Nat.le_of_ble_eq_true rfl) rfl rfl (by first | rfl | simp [stL, rm1, clr2, cat_rf, cat_i, cat_j, cat_f, cat_d]) ?_
        refine g_goto X 23 dL_law_3165 (by decide) ?_
        refine G.drop [true, true, true, true, true, false, false, false] rfl ?_
        cases hF
        exact hgo _ rfl
      · have hF := (if_neg c430).symm.trans hF
        cases hF
  · have hF := (if_neg c427).symm.trans hF
    cases hF
def F_L_law_A2055 (a1 : Option Nat) (k1_8 : Option Nat) (k2_8 : Option Nat) (k3_8 : Option Nat) (x4_8 : Int32) (h_8 : HH) : Option ((Int32 × HH) ⊕ HH) :=
  Option.bind (aldI h_8 0 a1 (x4_8 + (1 : Int32))) fun v431 =>
  b2 (F_X0_doMeet k1_8 v431 k3_8 h_8) fun v433 h432 =>
  Option.bind (aldI h432 0 a1 (x4_8 + (1 : Int32))) fun v434 =>
  Option.bind (isO h432 1 k2_8) fun ob435 =>
  b2 (F_X4_doMeet ob435 v434 h432) fun v437 h436 =>
  Option.bind (isO h436 1 k2_8) fun ob438 =>
  Option.bind (F_X4_thrown ob438 h436) fun v439 =>
  if v439 = v433 then (
    if v433 = 0 then (
      Option.bind (aldJ h436 4 k3_8 (0 : Int32)) fun v442 =>
      if (lg_cmp v442 (if v437 = 0 then (0 : Int64) else (1 : Int64))) = 0 then (
        some (.inl ((x4_8 + (5 : Int32)), h436))
      ) else (
        none
      )
    ) else (
      some (.inl ((x4_8 + (5 : Int32)), h436))
    )
  ) else (
    none
  )
set_option maxHeartbeats 4000000 in
theorem w_L_law_A2055 {p : Program} {l : Launch} {e : Env} {R : Room} {s : State} {m : MethodId} {args : Array Value} {below : List Frame} {meth : Method} {c : Code} {Q : State → Prop} {D : va_G} {dA : Nat → ClassId} {h0 : HH} (hl : l.stackTraces = false) (X : FX p l s m args meth R c cL_law 8 "FerryClocksLaw" D dA h0 []) (hRf : R.frames = 8192) (hRl : R.locals = 100000) (a1 : Option Nat) (k1_8 : Option Nat) (k2_8 : Option Nat) (k3_8 : Option Nat) (x4_8 : Int32) (h_8 : HH) (o : (Int32 × HH) ⊕ HH) : F_L_law_A2055 a1 k1_8 k2_8 k3_8 x4_8 h_8 = some o → (∀ y, o = .inl y → (fun z => G p l e R s m args below meth c Q D dA h0 8 z.2 23 [some (va_rf a1), some (va_rf k1_8), some (va_rf k2_8), some (va_rf k3_8), some (.int z.1), none, none, none] []) y) → (∀ r, o = .inr r → (fun z => G p l e R s m args below meth c Q D dA h0 8 z 3168 [none, none, none, none, none, none, none, none] []) r) → G p l e R s m args below meth c Q D dA h0 8 h_8 2055 [some (va_rf a1), some (va_rf k1_8), some (va_rf k2_8), some (va_rf k3_8), some (.int x4_8), none, none, none] [] := by
  intro hF hgo hr
  unfold F_L_law_A2055 at hF
  refine g_aload_n X dL_law_2055 rfl rfl ?_
  refine g_aload_n X dL_law_2056 rfl rfl ?_
  refine g_iload X dL_law_2057 rfl ?_
  refine g_iconst (v := (1 : Int32)) X dL_law_2059 (by decide) ?_
  refine g_iadd X dL_law_2060 ?_
  obtain ⟨v431, ev431, hF⟩ := bnd hF
  refine g_iald X ev431 dL_law_2061 ?_
  refine g_aload_n X dL_law_2062 rfl rfl ?_
  obtain ⟨v433, h432, eh432, hF⟩ := b2_some hF
  refine g_callS X (w_X0_doMeet l hl D dA h_8 k1_8 v431 k3_8 v433 h432 eh432) q1361 q1362 q91 q1363 okn_X0_doMeet ⟨by rw [hRf]; exact Nat.le_of_ble_eq_true rfl, by rw [hRl]; exact Nat.le_of_ble_eq_true rfl⟩ (As := [va_rf k1_8, .int v431, va_rf k3_8]) (rest := []) rfl (by first | exact Nat.le_of_ble_eq_true rfl | simp [cat_rf, cat_i, cat_j, cat_f, cat_d]) dL_law_2063 (ac_v ?_)
  refine g_istore (L' := [some (va_rf a1), some (va_rf k1_8), some (va_rf k2_8), some (va_rf k3_8), some (.int x4_8), some (.int v433), none, none]) X dL_law_2066 (Nat.le_of_ble_eq_true rfl) (by first | rfl | simp [stL, rm1, clr2, cat_rf, cat_i, cat_j, cat_f, cat_d]) ?_
  refine g_aload_n X dL_law_2068 rfl rfl ?_
  refine g_aload_n X dL_law_2069 rfl rfl ?_
  refine g_iload X dL_law_2070 rfl ?_
  refine g_iconst (v := (1 : Int32)) X dL_law_2072 (by decide) ?_
  refine g_iadd X dL_law_2073 ?_
  obtain ⟨v434, ev434, hF⟩ := bnd hF
  refine g_iald X ev434 dL_law_2074 ?_
  obtain ⟨ob435, eob435, hF⟩ := bnd hF
  obtain ⟨v437, h436, eh436, hF⟩ := b2_some hF
  refine g_callV X eob435 rfl rfl (w_X4_doMeet l hl D dA h432 ob435 v434 v437 h436 eh436) q2174 q2175 q2176 q103 q2177 okn_X4_doMeet ⟨by rw [hRf]; exact Nat.le_of_ble_eq_true rfl, by rw [hRl]; exact Nat.le_of_ble_eq_true rfl⟩ (As := [.int v434]) (rest := []) rfl (by first | exact Nat.le_of_ble_eq_true rfl | simp [cat_rf, cat_i, cat_j, cat_f, cat_d]) dL_law_2075 (ac_v ?_)
  refine g_istore (L' := [some (va_rf a1), some (va_rf k1_8), some (va_rf k2_8), some (va_rf k3_8), some (.int x4_8), some (.int v433), some (.int v437), none]) X dL_law_2078 (Nat.le_of_ble_eq_true rfl) (by first | rfl | simp [stL, rm1, clr2, cat_rf, cat_i, cat_j, cat_f, cat_d]) ?_
  refine g_aload_n X dL_law_2080 rfl rfl ?_
  obtain ⟨ob438, eob438, hF⟩ := bnd hF
  obtain ⟨v439, ev439, hF⟩ := bnd hF
  refine g_callV X eob438 rfl rfl (w_X4_thrown l hl D dA h436 ob438  v439 ev439) q1851 q1852 q1853 q103 q1854 okn_X4_thrown ⟨by rw [hRf]; exact Nat.le_of_ble_eq_true rfl, by rw [hRl]; exact Nat.le_of_ble_eq_true rfl⟩ (As := []) (rest := []) rfl (by first | exact Nat.le_of_ble_eq_true rfl | simp [cat_rf, cat_i, cat_j, cat_f, cat_d]) dL_law_2081 (ac_v ?_)
  refine g_iload X dL_law_2084 rfl ?_
  refine g_icmp_eq X 2091 dL_law_2086 (by decide) (fun c440 => ?_) (fun c440 => ?_)
  · have hF := (if_pos c440).symm.trans hF
    refine g_iload X dL_law_2091 rfl ?_
    refine g_if_ne X 2115 dL_law_2093 (by decide) (fun c441 => ?_) (fun c441 => ?_)
    · have hF := (if_neg c441).symm.trans hF
      refine g_goto X 3162 dL_law_2115 (by decide) ?_
      refine g_iinc (v := (x4_8 + (5 : Int32))) (L' := [some (va_rf a1), some (va_rf k1_8), some (va_rf k2_8), some (va_rf k3_8), some (.int (x4_8 + (5 : Int32))), some (.int v433), some (.int v437), none]) X dL_law_3162 (Nat.le_of_ble_eq_true rfl) rfl rfl (by first | rfl | simp [stL, rm1, clr2, cat_rf, cat_i, cat_j, cat_f, cat_d]) ?_
      refine g_goto X 23 dL_law_3165 (by decide) ?_
      refine G.drop [true, true, true, true, true, false, false, false] rfl ?_
      cases hF
      exact hgo _ rfl
    · have hF := (if_pos c441).symm.trans hF
      refine g_aload_n X dL_law_2096 rfl rfl ?_
      refine g_iconst (v := (0 : Int32)) X dL_law_2097 (by decide) ?_
      obtain ⟨v442, ev442, hF⟩ := bnd hF
      refine g_lald X ev442 dL_law_2098 ?_
      refine g_iload X dL_law_2099 rfl ?_
      suffices K : G p l e R s m args below meth c Q D dA h0 8 h436 2109 [some (va_rf a1), some (va_rf k1_8), some (va_rf k2_8), some (va_rf k3_8), some (.int x4_8), none, none, none] [.long (if v437 = 0 then (0 : Int64) else (1 : Int64)), .long v442] by
        refine g_if_eq X 2108 dL_law_2101 (by decide) (fun c443 => ?_) (fun c443 => ?_)
        · (try simp only [if_pos c443] at K)
          refine g_lconst (v := (0 : Int64)) X dL_law_2108 (by decide) ?_
          refine G.drop [true, true, true, true, true, false, false, false] rfl ?_
          first | exact K | (simp only [if_pos c443]; exact K)
        · (try simp only [if_neg c443] at K)
          refine g_lconst (v := (1 : Int64)) X dL_law_2104 (by decide) ?_
          refine g_goto X 2109 dL_law_2105 (by decide) ?_
          refine G.drop [true, true, true, true, true, false, false, false] rfl ?_
          first | exact K | (simp only [if_neg c443]; exact K)
      refine g_lcmp X dL_law_2109 ?_
      refine g_if_eq X 2115 dL_law_2110 (by decide) (fun c444 => ?_) (fun c444 => ?_)
      · have hF := (if_pos c444).symm.trans hF
        refine g_goto X 3162 dL_law_2115 (by decide) ?_
        refine g_iinc (v := (x4_8 + (5 : Int32))) (L' := [some (va_rf a1), some (va_rf k1_8), some (va_rf k2_8), some (va_rf k3_8), some (.int (x4_8 + (5 : Int32))), none, none, none]) X dL_law_3162 (Nat.le_of_ble_eq_true rfl) rfl rfl (by first | rfl | simp [stL, rm1, clr2, cat_rf, cat_i, cat_j, cat_f, cat_d]) ?_
        refine g_goto X 23 dL_law_3165 (by decide) ?_
        cases hF
        exact hgo _ rfl
      · have hF := (if_neg c444).symm.trans hF
        cases hF
  · have hF := (if_neg c440).symm.trans hF
    cases hF
def F_L_law_A2118 (a1 : Option Nat) (k1_8 : Option Nat) (k2_8 : Option Nat) (k3_8 : Option Nat) (x4_8 : Int32) (h_8 : HH) : Option ((Int32 × HH) ⊕ HH) :=
  Option.bind (aldI h_8 0 a1 (x4_8 + (1 : Int32))) fun v445 =>
  Option.bind (aldI h_8 0 a1 (x4_8 + (2 : Int32))) fun v446 =>
  b2 (F_X0_stayOf k1_8 v445 v446 k3_8 h_8) fun v448 h447 =>
  Option.bind (aldI h447 0 a1 (x4_8 + (1 : Int32))) fun v449 =>
  Option.bind (aldI h447 0 a1 (x4_8 + (2 : Int32))) fun v450 =>
  Option.bind (isO h447 1 k2_8) fun ob451 =>
  b2 (F_X4_stayOf ob451 v449 v450 h447) fun v453 h452 =>
  Option.bind (isO h452 1 k2_8) fun ob454 =>
  Option.bind (F_X4_thrown ob454 h452) fun v455 =>
  if v455 = v448 then (
    if v448 = 0 then (
      Option.bind (aldJ h452 4 k3_8 (0 : Int32)) fun v458 =>
      if (lg_cmp v458 (v453.toInt64)) = 0 then (
        some (.inl ((x4_8 + (5 : Int32)), h452))
      ) else (
        none
      )
    ) else (
      some (.inl ((x4_8 + (5 : Int32)), h452))
    )
  ) else (
    none
  )
set_option maxHeartbeats 4000000 in
theorem w_L_law_A2118 {p : Program} {l : Launch} {e : Env} {R : Room} {s : State} {m : MethodId} {args : Array Value} {below : List Frame} {meth : Method} {c : Code} {Q : State → Prop} {D : va_G} {dA : Nat → ClassId} {h0 : HH} (hl : l.stackTraces = false) (X : FX p l s m args meth R c cL_law 8 "FerryClocksLaw" D dA h0 []) (hRf : R.frames = 8192) (hRl : R.locals = 100000) (a1 : Option Nat) (k1_8 : Option Nat) (k2_8 : Option Nat) (k3_8 : Option Nat) (x4_8 : Int32) (h_8 : HH) (o : (Int32 × HH) ⊕ HH) : F_L_law_A2118 a1 k1_8 k2_8 k3_8 x4_8 h_8 = some o → (∀ y, o = .inl y → (fun z => G p l e R s m args below meth c Q D dA h0 8 z.2 23 [some (va_rf a1), some (va_rf k1_8), some (va_rf k2_8), some (va_rf k3_8), some (.int z.1), none, none, none] []) y) → (∀ r, o = .inr r → (fun z => G p l e R s m args below meth c Q D dA h0 8 z 3168 [none, none, none, none, none, none, none, none] []) r) → G p l e R s m args below meth c Q D dA h0 8 h_8 2118 [some (va_rf a1), some (va_rf k1_8), some (va_rf k2_8), some (va_rf k3_8), some (.int x4_8), none, none, none] [] := by
  intro hF hgo hr
  unfold F_L_law_A2118 at hF
  refine g_aload_n X dL_law_2118 rfl rfl ?_
  refine g_aload_n X dL_law_2119 rfl rfl ?_
  refine g_iload X dL_law_2120 rfl ?_
  refine g_iconst (v := (1 : Int32)) X dL_law_2122 (by decide) ?_
  refine g_iadd X dL_law_2123 ?_
  obtain ⟨v445, ev445, hF⟩ := bnd hF
  refine g_iald X ev445 dL_law_2124 ?_
  refine g_aload_n X dL_law_2125 rfl rfl ?_
  refine g_iload X dL_law_2126 rfl ?_
  refine g_iconst (v := (2 : Int32)) X dL_law_2128 (by decide) ?_
  refine g_iadd X dL_law_2129 ?_
  obtain ⟨v446, ev446, hF⟩ := bnd hF
  refine g_iald X ev446 dL_law_2130 ?_
  refine g_aload_n X dL_law_2131 rfl rfl ?_
  obtain ⟨v448, h447, eh447, hF⟩ := b2_some hF
  refine g_callS X (w_X0_stayOf l hl D dA h_8 k1_8 v445 v446 k3_8 v448 h447 eh447) q1369 q1370 q91 q1371 okn_X0_stayOf ⟨by rw [hRf]; exact Nat.le_of_ble_eq_true rfl, by rw [hRl]; exact Nat.le_of_ble_eq_true rfl⟩ (As := [va_rf k1_8, .int v445, .int v446, va_rf k3_8]) (rest := []) rfl (by first | exact Nat.le_of_ble_eq_true rfl | simp [cat_rf, cat_i, cat_j, cat_f, cat_d]) dL_law_2132 (ac_v ?_)
  refine g_istore (L' := [some (va_rf a1), some (va_rf k1_8), some (va_rf k2_8), some (va_rf k3_8), some (.int x4_8), some (.int v448), none, none]) X dL_law_2135 (Nat.le_of_ble_eq_true rfl) (by first | rfl | simp [stL, rm1, clr2, cat_rf, cat_i, cat_j, cat_f, cat_d]) ?_
  refine g_aload_n X dL_law_2137 rfl rfl ?_
  refine g_aload_n X dL_law_2138 rfl rfl ?_
  refine g_iload X dL_law_2139 rfl ?_
  refine g_iconst (v := (1 : Int32)) X dL_law_2141 (by decide) ?_
  refine g_iadd X dL_law_2142 ?_
  obtain ⟨v449, ev449, hF⟩ := bnd hF
  refine g_iald X ev449 dL_law_2143 ?_
  refine g_aload_n X dL_law_2144 rfl rfl ?_
  refine g_iload X dL_law_2145 rfl ?_
  refine g_iconst (v := (2 : Int32)) X dL_law_2147 (by decide) ?_
  refine g_iadd X dL_law_2148 ?_
  obtain ⟨v450, ev450, hF⟩ := bnd hF
  refine g_iald X ev450 dL_law_2149 ?_
  obtain ⟨ob451, eob451, hF⟩ := bnd hF
  obtain ⟨v453, h452, eh452, hF⟩ := b2_some hF
  refine g_callV X eob451 rfl rfl (w_X4_stayOf l hl D dA h447 ob451 v449 v450 v453 h452 eh452) q2178 q2179 q2180 q103 q2181 okn_X4_stayOf ⟨by rw [hRf]; exact Nat.le_of_ble_eq_true rfl, by rw [hRl]; exact Nat.le_of_ble_eq_true rfl⟩ (As := [.int v449, .int v450]) (rest := []) rfl (by first | exact Nat.le_of_ble_eq_true rfl | simp [cat_rf, cat_i, cat_j, cat_f, cat_d]) dL_law_2150 (ac_v ?_)
  refine g_istore (L' := [some (va_rf a1), some (va_rf k1_8), some (va_rf k2_8), some (va_rf k3_8), some (.int x4_8), some (.int v448), some (.int v453), none]) X dL_law_2153 (Nat.le_of_ble_eq_true rfl) (by first | rfl | simp [stL, rm1, clr2, cat_rf, cat_i, cat_j, cat_f, cat_d]) ?_
  refine g_aload_n X dL_law_2155 rfl rfl ?_
  obtain ⟨ob454, eob454, hF⟩ := bnd hF
  obtain ⟨v455, ev455, hF⟩ := bnd hF
  refine g_callV X eob454 rfl rfl (w_X4_thrown l hl D dA h452 ob454  v455 ev455) q1851 q1852 q1853 q103 q1854 okn_X4_thrown ⟨by rw [hRf]; exact Nat.le_of_ble_eq_true rfl, by rw [hRl]; exact Nat.le_of_ble_eq_true rfl⟩ (As := []) (rest := []) rfl (by first | exact Nat.le_of_ble_eq_true rfl | simp [cat_rf, cat_i, cat_j, cat_f, cat_d]) dL_law_2156 (ac_v ?_)
  refine g_iload X dL_law_2159 rfl ?_
  refine g_icmp_eq X 2166 dL_law_2161 (by decide) (fun c456 => ?_) (fun c456 => ?_)
  · have hF := (if_pos c456).symm.trans hF
    refine g_iload X dL_law_2166 rfl ?_
    refine g_if_ne X 2183 dL_law_2168 (by decide) (fun c457 => ?_) (fun c457 => ?_)
    · have hF := (if_neg c457).symm.trans hF
      refine g_goto X 3162 dL_law_2183 (by decide) ?_
      refine g_iinc (v := (x4_8 + (5 : Int32))) (L' := [some (va_rf a1), some (va_rf k1_8), some (va_rf k2_8), some (va_rf k3_8), some (.int (x4_8 + (5 : Int32))), some (.int v448), some (.int v453), none]) X dL_law_3162 (Nat.le_of_ble_eq_true rfl) rfl rfl (by first | rfl | simp [stL, rm1, clr2, cat_rf, cat_i, cat_j, cat_f, cat_d]) ?_
      refine g_goto X 23 dL_law_3165 (by decide) ?_
      refine G.drop [true, true, true, true, true, false, false, false] rfl ?_
      cases hF
      exact hgo _ rfl
    · have hF := (if_pos c457).symm.trans hF
      refine g_aload_n X dL_law_2171 rfl rfl ?_
      refine g_iconst (v := (0 : Int32)) X dL_law_2172 (by decide) ?_
      obtain ⟨v458, ev458, hF⟩ := bnd hF
      refine g_lald X ev458 dL_law_2173 ?_
      refine g_iload X dL_law_2174 rfl ?_
      refine g_i2l X dL_law_2176 ?_
      refine g_lcmp X dL_law_2177 ?_
      refine g_if_eq X 2183 dL_law_2178 (by decide) (fun c459 => ?_) (fun c459 => ?_)
      · have hF := (if_pos c459).symm.trans hF
        refine g_goto X 3162 dL_law_2183 (by decide) ?_
        refine g_iinc (v := (x4_8 + (5 : Int32))) (L' := [some (va_rf a1), some (va_rf k1_8), some (va_rf k2_8), some (va_rf k3_8), some (.int (x4_8 + (5 : Int32))), some (.int v448), some (.int v453), none]) X dL_law_3162 (Nat.le_of_ble_eq_true rfl) rfl rfl (by first | rfl | simp [stL, rm1, clr2, cat_rf, cat_i, cat_j, cat_f, cat_d]) ?_
        refine g_goto X 23 dL_law_3165 (by decide) ?_
        refine G.drop [true, true, true, true, true, false, false, false] rfl ?_
        cases hF
        exact hgo _ rfl
      · have hF := (if_neg c459).symm.trans hF
        cases hF
  · have hF := (if_neg c456).symm.trans hF
    cases hF
def F_L_law_A2186 (a1 : Option Nat) (k1_8 : Option Nat) (k2_8 : Option Nat) (k3_8 : Option Nat) (x4_8 : Int32) (h_8 : HH) : Option ((Int32 × HH) ⊕ HH) :=
  Option.bind (isO h_8 0 k1_8) fun ob460 =>
  Option.bind (F_X1_lines ob460 h_8) fun v461 =>
  Option.bind (isO h_8 1 k2_8) fun ob462 =>
  b2 (F_X4_lines ob462 h_8) fun v464 h463 =>
  if v461 = v464 then (
    some (.inl ((x4_8 + (5 : Int32)), h463))
  ) else (
    none
  )
set_option maxHeartbeats 4000000 in
theorem w_L_law_A2186 {p : Program} {l : Launch} {e : Env} {R : Room} {s : State} {m : MethodId} {args : Array Value} {below : List Frame} {meth : Method} {c : Code} {Q : State → Prop} {D : va_G} {dA : Nat → ClassId} {h0 : HH} (hl : l.stackTraces = false) (X : FX p l s m args meth R c cL_law 8 "FerryClocksLaw" D dA h0 []) (hRf : R.frames = 8192) (hRl : R.locals = 100000) (a1 : Option Nat) (k1_8 : Option Nat) (k2_8 : Option Nat) (k3_8 : Option Nat) (x4_8 : Int32) (h_8 : HH) (o : (Int32 × HH) ⊕ HH) : F_L_law_A2186 a1 k1_8 k2_8 k3_8 x4_8 h_8 = some o → (∀ y, o = .inl y → (fun z => G p l e R s m args below meth c Q D dA h0 8 z.2 23 [some (va_rf a1), some (va_rf k1_8), some (va_rf k2_8), some (va_rf k3_8), some (.int z.1), none, none, none] []) y) → (∀ r, o = .inr r → (fun z => G p l e R s m args below meth c Q D dA h0 8 z 3168 [none, none, none, none, none, none, none, none] []) r) → G p l e R s m args below meth c Q D dA h0 8 h_8 2186 [some (va_rf a1), some (va_rf k1_8), some (va_rf k2_8), some (va_rf k3_8), some (.int x4_8), none, none, none] [] := by
  intro hF hgo hr
  unfold F_L_law_A2186 at hF
  refine g_aload_n X dL_law_2186 rfl rfl ?_
  obtain ⟨ob460, eob460, hF⟩ := bnd hF
  obtain ⟨v461, ev461, hF⟩ := bnd hF
  refine g_callV X eob460 rfl rfl (w_X1_lines l hl D dA h_8 ob460  v461 ev461) q814 q815 q816 q92 q817 okn_X1_lines ⟨by rw [hRf]; exact Nat.le_of_ble_eq_true rfl, by rw [hRl]; exact Nat.le_of_ble_eq_true rfl⟩ (As := []) (rest := []) rfl (by first | exact Nat.le_of_ble_eq_true rfl | simp [cat_rf, cat_i, cat_j, cat_f, cat_d]) dL_law_2187 (ac_v ?_)
  refine g_aload_n X dL_law_2190 rfl rfl ?_
  obtain ⟨ob462, eob462, hF⟩ := bnd hF
  obtain ⟨v464, h463, eh463, hF⟩ := b2_some hF
  refine g_callV X eob462 rfl rfl (w_X4_lines l hl D dA h_8 ob462  v464 h463 eh463) q2186 q2187 q2188 q103 q2189 okn_X4_lines ⟨by rw [hRf]; exact Nat.le_of_ble_eq_true rfl, by rw [hRl]; exact Nat.le_of_ble_eq_true rfl⟩ (As := []) (rest := [.int v461]) rfl (by first | exact Nat.le_of_ble_eq_true rfl | simp [cat_rf, cat_i, cat_j, cat_f, cat_d]) dL_law_2191 (ac_v ?_)
  refine g_icmp_eq X 3162 dL_law_2194 (by decide) (fun c465 => ?_) (fun c465 => ?_)
  · have hF := (if_pos c465).symm.trans hF
    refine g_iinc (v := (x4_8 + (5 : Int32))) (L' := [some (va_rf a1), some (va_rf k1_8), some (va_rf k2_8), some (va_rf k3_8), some (.int (x4_8 + (5 : Int32))), none, none, none]) X dL_law_3162 (Nat.le_of_ble_eq_true rfl) rfl rfl (by first | rfl | simp [stL, rm1, clr2, cat_rf, cat_i, cat_j, cat_f, cat_d]) ?_
    refine g_goto X 23 dL_law_3165 (by decide) ?_
    cases hF
    exact hgo _ rfl
  · have hF := (if_neg c465).symm.trans hF
    cases hF
def F_L_law_A2199 (a1 : Option Nat) (k1_8 : Option Nat) (k2_8 : Option Nat) (k3_8 : Option Nat) (x4_8 : Int32) (h_8 : HH) : Option ((Int32 × HH) ⊕ HH) :=
  Option.bind (aldI h_8 0 a1 (x4_8 + (1 : Int32))) fun v466 =>
  b2 (F_X0_fromOf k1_8 v466 k3_8 h_8) fun v468 h467 =>
  Option.bind (aldI h467 0 a1 (x4_8 + (1 : Int32))) fun v469 =>
  Option.bind (isO h467 1 k2_8) fun ob470 =>
  b2 (F_X4_fromOf ob470 v469 h467) fun v472 h471 =>
  Option.bind (isO h471 1 k2_8) fun ob473 =>
  Option.bind (F_X4_thrown ob473 h471) fun v474 =>
  if v474 = v468 then (
    if v468 = 0 then (
      Option.bind (aldJ h471 4 k3_8 (0 : Int32)) fun v477 =>
      if (lg_cmp v477 (v472.toInt64)) = 0 then (
        some (.inl ((x4_8 + (5 : Int32)), h471))
      ) else (
        none
      )
    ) else (
      some (.inl ((x4_8 + (5 : Int32)), h471))
    )
  ) else (
    none
  )
set_option maxHeartbeats 4000000 in
theorem w_L_law_A2199 {p : Program} {l : Launch} {e : Env} {R : Room} {s : State} {m : MethodId} {args : Array Value} {below : List Frame} {meth : Method} {c : Code} {Q : State → Prop} {D : va_G} {dA : Nat → ClassId} {h0 : HH} (hl : l.stackTraces = false) (X : FX p l s m args meth R c cL_law 8 "FerryClocksLaw" D dA h0 []) (hRf : R.frames = 8192) (hRl : R.locals = 100000) (a1 : Option Nat) (k1_8 : Option Nat) (k2_8 : Option Nat) (k3_8 : Option Nat) (x4_8 : Int32) (h_8 : HH) (o : (Int32 × HH) ⊕ HH) : F_L_law_A2199 a1 k1_8 k2_8 k3_8 x4_8 h_8 = some o → (∀ y, o = .inl y → (fun z => G p l e R s m args below meth c Q D dA h0 8 z.2 23 [some (va_rf a1), some (va_rf k1_8), some (va_rf k2_8), some (va_rf k3_8), some (.int z.1), none, none, none] []) y) → (∀ r, o = .inr r → (fun z => G p l e R s m args below meth c Q D dA h0 8 z 3168 [none, none, none, none, none, none, none, none] []) r) → G p l e R s m args below meth c Q D dA h0 8 h_8 2199 [some (va_rf a1), some (va_rf k1_8), some (va_rf k2_8), some (va_rf k3_8), some (.int x4_8), none, none, none] [] := by
  intro hF hgo hr
  unfold F_L_law_A2199 at hF
  refine g_aload_n X dL_law_2199 rfl rfl ?_
  refine g_aload_n X dL_law_2200 rfl rfl ?_
  refine g_iload X dL_law_2201 rfl ?_
  refine g_iconst (v := (1 : Int32)) X dL_law_2203 (by decide) ?_
  refine g_iadd X dL_law_2204 ?_
  obtain ⟨v466, ev466, hF⟩ := bnd hF
  refine g_iald X ev466 dL_law_2205 ?_
  refine g_aload_n X dL_law_2206 rfl rfl ?_
  obtain ⟨v468, h467, eh467, hF⟩ := b2_some hF
  refine g_callS X (w_X0_fromOf l hl D dA h_8 k1_8 v466 k3_8 v468 h467 eh467) q1378 q1379 q91 q1380 okn_X0_fromOf ⟨by rw [hRf]; exact Nat.le_of_ble_eq_true rfl, by rw [hRl]; exact Nat.le_of_ble_eq_true rfl⟩ (As := [va_rf k1_8, .int v466, va_rf k3_8]) (rest := []) rfl (by first | exact Nat.le_of_ble_eq_true rfl | simp [cat_rf, cat_i, cat_j, cat_f, cat_d]) dL_law_2207 (ac_v ?_)
  refine g_istore (L' := [some (va_rf a1), some (va_rf k1_8), some (va_rf k2_8), some (va_rf k3_8), some (.int x4_8), some (.int v468), none, none]) X dL_law_2210 (Nat.le_of_ble_eq_true rfl) (by first | rfl | simp [stL, rm1, clr2, cat_rf, cat_i, cat_j, cat_f, cat_d]) ?_
  refine g_aload_n X dL_law_2212 rfl rfl ?_
  refine g_aload_n X dL_law_2213 rfl rfl ?_
  refine g_iload X dL_law_2214 rfl ?_
  refine g_iconst (v := (1 : Int32)) X dL_law_2216 (by decide) ?_
  refine g_iadd X dL_law_2217 ?_
  obtain ⟨v469, ev469, hF⟩ := bnd hF
  refine g_iald X ev469 dL_law_2218 ?_
  obtain ⟨ob470, eob470, hF⟩ := bnd hF
  obtain ⟨v472, h471, eh471, hF⟩ := b2_some hF
  refine g_callV X eob470 rfl rfl (w_X4_fromOf l hl D dA h467 ob470 v469 v472 h471 eh471) q2190 q2191 q2192 q103 q2193 okn_X4_fromOf ⟨by rw [hRf]; exact Nat.le_of_ble_eq_true rfl, by rw [hRl]; exact Nat.le_of_ble_eq_true rfl⟩ (As := [.int v469]) (rest := []) rfl (by first | exact Nat.le_of_ble_eq_true rfl | simp [cat_rf, cat_i, cat_j, cat_f, cat_d]) dL_law_2219 (ac_v ?_)
  refine g_istore (L' := [some (va_rf a1), some (va_rf k1_8), some (va_rf k2_8), some (va_rf k3_8), some (.int x4_8), some (.int v468), some (.int v472), none]) X dL_law_2222 (Nat.le_of_ble_eq_true rfl) (by first | rfl | simp [stL, rm1, clr2, cat_rf, cat_i, cat_j, cat_f, cat_d]) ?_
  refine g_aload_n X dL_law_2224 rfl rfl ?_
  obtain ⟨ob473, eob473, hF⟩ := bnd hF
  obtain ⟨v474, ev474, hF⟩ := bnd hF
  refine g_callV X eob473 rfl rfl (w_X4_thrown l hl D dA h471 ob473  v474 ev474) q1851 q1852 q1853 q103 q1854 okn_X4_thrown ⟨by rw [hRf]; exact Nat.le_of_ble_eq_true rfl, by rw [hRl]; exact Nat.le_of_ble_eq_true rfl⟩ (As := []) (rest := []) rfl (by first | exact Nat.le_of_ble_eq_true rfl | simp [cat_rf, cat_i, cat_j, cat_f, cat_d]) dL_law_2225 (ac_v ?_)
  refine g_iload X dL_law_2228 rfl ?_
  refine g_icmp_eq X 2235 dL_law_2230 (by decide) (fun c475 => ?_) (fun c475 => ?_)
  · have hF := (if_pos c475).symm.trans hF
    refine g_iload X dL_law_2235 rfl ?_
    refine g_if_ne X 2252 dL_law_2237 (by decide) (fun c476 => ?_) (fun c476 => ?_)
    · have hF := (if_neg c476).symm.trans hF
      refine g_goto X 3162 dL_law_2252 (by decide) ?_
      refine g_iinc (v := (x4_8 + (5 : Int32))) (L' := [some (va_rf a1), some (va_rf k1_8), some (va_rf k2_8), some (va_rf k3_8), some (.int (x4_8 + (5 : Int32))), some (.int v468), some (.int v472), none]) X dL_law_3162 (Nat.le_of_ble_eq_true rfl) rfl rfl (by first | rfl | simp [stL, rm1, clr2, cat_rf, cat_i, cat_j, cat_f, cat_d]) ?_
      refine g_goto X 23 dL_law_3165 (by decide) ?_
      refine G.drop [true, true, true, true, true, false, false, false] rfl ?_
      cases hF
      exact hgo _ rfl
    · have hF := (if_pos c476).symm.trans hF
      refine g_aload_n X dL_law_2240 rfl rfl ?_
      refine g_iconst (v := (0 : Int32)) X dL_law_2241 (by decide) ?_
      obtain ⟨v477, ev477, hF⟩ := bnd hF
      refine g_lald X ev477 dL_law_2242 ?_
      refine g_iload X dL_law_2243 rfl ?_
      refine g_i2l X dL_law_2245 ?_
      refine g_lcmp X dL_law_2246 ?_
      refine g_if_eq X 2252 dL_law_2247 (by decide) (fun c478 => ?_) (fun c478 => ?_)
      · have hF := (if_pos c478).symm.trans hF
        refine g_goto X 3162 dL_law_2252 (by decide) ?_
        refine g_iinc (v := (x4_8 + (5 : Int32))) (L' := [some (va_rf a1), some (va_rf k1_8), some (va_rf k2_8), some (va_rf k3_8), some (.int (x4_8 + (5 : Int32))), some (.int v468), some (.int v472), none]) X dL_law_3162 (Nat.le_of_ble_eq_true rfl) rfl rfl (by first | rfl | simp [stL, rm1, clr2, cat_rf, cat_i, cat_j, cat_f, cat_d]) ?_
        refine g_goto X 23 dL_law_3165 (by decide) ?_
        refine G.drop [true, true, true, true, true, false, false, false] rfl ?_
        cases hF
        exact hgo _ rfl
      · have hF := (if_neg c478).symm.trans hF
        cases hF
  · have hF := (if_neg c475).symm.trans hF
    cases hF
def F_L_law_A2255 (a1 : Option Nat) (k1_8 : Option Nat) (k2_8 : Option Nat) (k3_8 : Option Nat) (x4_8 : Int32) (h_8 : HH) : Option ((Int32 × HH) ⊕ HH) :=
  Option.bind (aldI h_8 0 a1 (x4_8 + (1 : Int32))) fun v479 =>
  b2 (F_X0_toOf k1_8 v479 k3_8 h_8) fun v481 h480 =>
  Option.bind (aldI h480 0 a1 (x4_8 + (1 : Int32))) fun v482 =>
  Option.bind (isO h480 1 k2_8) fun ob483 =>
  b2 (F_X4_toOf ob483 v482 h480) fun v485 h484 =>
  Option.bind (isO h484 1 k2_8) fun ob486 =>
  Option.bind (F_X4_thrown ob486 h484) fun v487 =>
  if v487 = v481 then (
    if v481 = 0 then (
      Option.bind (aldJ h484 4 k3_8 (0 : Int32)) fun v490 =>
      if (lg_cmp v490 (v485.toInt64)) = 0 then (
        some (.inl ((x4_8 + (5 : Int32)), h484))
      ) else (
        none
      )
    ) else (
      some (.inl ((x4_8 + (5 : Int32)), h484))
    )
  ) else (
    none
  )
set_option maxHeartbeats 4000000 in
theorem w_L_law_A2255 {p : Program} {l : Launch} {e : Env} {R : Room} {s : State} {m : MethodId} {args : Array Value} {below : List Frame} {meth : Method} {c : Code} {Q : State → Prop} {D : va_G} {dA : Nat → ClassId} {h0 : HH} (hl : l.stackTraces = false) (X : FX p l s m args meth R c cL_law 8 "FerryClocksLaw" D dA h0 []) (hRf : R.frames = 8192) (hRl : R.locals = 100000) (a1 : Option Nat) (k1_8 : Option Nat) (k2_8 : Option Nat) (k3_8 : Option Nat) (x4_8 : Int32) (h_8 : HH) (o : (Int32 × HH) ⊕ HH) : F_L_law_A2255 a1 k1_8 k2_8 k3_8 x4_8 h_8 = some o → (∀ y, o = .inl y → (fun z => G p l e R s m args below meth c Q D dA h0 8 z.2 23 [some (va_rf a1), some (va_rf k1_8), some (va_rf k2_8), some (va_rf k3_8), some (.int z.1), none, none, none] []) y) → (∀ r, o = .inr r → (fun z => G p l e R s m args below meth c Q D dA h0 8 z 3168 [none, none, none, none, none, none, none, none] []) r) → G p l e R s m args below meth c Q D dA h0 8 h_8 2255 [some (va_rf a1), some (va_rf k1_8), some (va_rf k2_8), some (va_rf k3_8), some (.int x4_8), none, none, none] [] := by
  intro hF hgo hr
  unfold F_L_law_A2255 at hF
  refine g_aload_n X dL_law_2255 rfl rfl ?_
  refine g_aload_n X dL_law_2256 rfl rfl ?_
  refine g_iload X dL_law_2257 rfl ?_
  refine g_iconst (v := (1 : Int32)) X dL_law_2259 (by decide) ?_
  refine g_iadd X dL_law_2260 ?_
  obtain ⟨v479, ev479, hF⟩ := bnd hF
  refine g_iald X ev479 dL_law_2261 ?_
  refine g_aload_n X dL_law_2262 rfl rfl ?_
  obtain ⟨v481, h480, eh480, hF⟩ := b2_some hF
  refine g_callS X (w_X0_toOf l hl D dA h_8 k1_8 v479 k3_8 v481 h480 eh480) q1392 q1393 q91 q1394 okn_X0_toOf ⟨by rw [hRf]; exact Nat.le_of_ble_eq_true rfl, by rw [hRl]; exact Nat.le_of_ble_eq_true rfl⟩ (As := [va_rf k1_8, .int v479, va_rf k3_8]) (rest := []) rfl (by first | exact Nat.le_of_ble_eq_true rfl | simp [cat_rf, cat_i, cat_j, cat_f, cat_d]) dL_law_2263 (ac_v ?_)
  refine g_istore (L' := [some (va_rf a1), some (va_rf k1_8), some (va_rf k2_8), some (va_rf k3_8), some (.int x4_8), some (.int v481), none, none]) X dL_law_2266 (Nat.le_of_ble_eq_true rfl) (by first | rfl | simp [stL, rm1, clr2, cat_rf, cat_i, cat_j, cat_f, cat_d]) ?_
  refine g_aload_n X dL_law_2268 rfl rfl ?_
  refine g_aload_n X dL_law_2269 rfl rfl ?_
  refine g_iload X dL_law_2270 rfl ?_
  refine g_iconst (v := (1 : Int32)) X dL_law_2272 (by decide) ?_
  refine g_iadd X dL_law_2273 ?_
  obtain ⟨v482, ev482, hF⟩ := bnd hF
  refine g_iald X ev482 dL_law_2274 ?_
  obtain ⟨ob483, eob483, hF⟩ := bnd hF
  obtain ⟨v485, h484, eh484, hF⟩ := b2_some hF
  refine g_callV X eob483 rfl rfl (w_X4_toOf l hl D dA h480 ob483 v482 v485 h484 eh484) q2194 q2195 q2196 q103 q2197 okn_X4_toOf ⟨by rw [hRf]; exact Nat.le_of_ble_eq_true rfl, by rw [hRl]; exact Nat.le_of_ble_eq_true rfl⟩ (As := [.int v482]) (rest := []) rfl (by first | exact Nat.le_of_ble_eq_true rfl | simp [cat_rf, cat_i, cat_j, cat_f, cat_d]) dL_law_2275 (ac_v ?_)
  refine g_istore (L' := [some (va_rf a1), some (va_rf k1_8), some (va_rf k2_8), some (va_rf k3_8), some (.int x4_8), some (.int v481), some (.int v485), none]) X dL_law_2278 (Nat.le_of_ble_eq_true rfl) (by first | rfl | simp [stL, rm1, clr2, cat_rf, cat_i, cat_j, cat_f, cat_d]) ?_
  refine g_aload_n X dL_law_2280 rfl rfl ?_
  obtain ⟨ob486, eob486, hF⟩ := bnd hF
  obtain ⟨v487, ev487, hF⟩ := bnd hF
  refine g_callV X eob486 rfl rfl (w_X4_thrown l hl D dA h484 ob486  v487 ev487) q1851 q1852 q1853 q103 q1854 okn_X4_thrown ⟨by rw [hRf]; exact Nat.le_of_ble_eq_true rfl, by rw [hRl]; exact Nat.le_of_ble_eq_true rfl⟩ (As := []) (rest := []) rfl (by first | exact Nat.le_of_ble_eq_true rfl | simp [cat_rf, cat_i, cat_j, cat_f, cat_d]) dL_law_2281 (ac_v ?_)
  refine g_iload X dL_law_2284 rfl ?_
  refine g_icmp_eq X 2291 dL_law_2286 (by decide) (fun c488 => ?_) (fun c488 => ?_)
  · have hF := (if_pos c488).symm.trans hF
    refine g_iload X dL_law_2291 rfl ?_
    refine g_if_ne X 2308 dL_law_2293 (by decide) (fun c489 => ?_) (fun c489 => ?_)
    · have hF := (if_neg c489).symm.trans hF
      refine g_goto X 3162 dL_law_2308 (by decide) ?_
      refine g_iinc (v := (x4_8 + (5 : Int32))) (L' := [some (va_rf a1), some (va_rf k1_8), some (va_rf k2_8), some (va_rf k3_8), some (.int (x4_8 + (5 : Int32))), some (.int v481), some (.int v485), none]) X dL_law_3162 (Nat.le_of_ble_eq_true rfl) rfl rfl (by first | rfl | simp [stL, rm1, clr2, cat_rf, cat_i, cat_j, cat_f, cat_d]) ?_
      refine g_goto X 23 dL_law_3165 (by decide) ?_
      refine G.drop [true, true, true, true, true, false, false, false] rfl ?_
      cases hF
      exact hgo _ rfl
    · have hF := (if_pos c489).symm.trans hF
      refine g_aload_n X dL_law_2296 rfl rfl ?_
      refine g_iconst (v := (0 : Int32)) X dL_law_2297 (by decide) ?_
      obtain ⟨v490, ev490, hF⟩ := bnd hF
      refine g_lald X ev490 dL_law_2298 ?_
      refine g_iload X dL_law_2299 rfl ?_
      refine g_i2l X dL_law_2301 ?_
      refine g_lcmp X dL_law_2302 ?_
      refine g_if_eq X 2308 dL_law_2303 (by decide) (fun c491 => ?_) (fun c491 => ?_)
      · have hF := (if_pos c491).symm.trans hF
        refine g_goto X 3162 dL_law_2308 (by decide) ?_
        refine g_iinc (v := (x4_8 + (5 : Int32))) (L' := [some (va_rf a1), some (va_rf k1_8), some (va_rf k2_8), some (va_rf k3_8), some (.int (x4_8 + (5 : Int32))), some (.int v481), some (.int v485), none]) X dL_law_3162 (Nat.le_of_ble_eq_true rfl) rfl rfl (by first | rfl | simp [stL, rm1, clr2, cat_rf, cat_i, cat_j, cat_f, cat_d]) ?_
        refine g_goto X 23 dL_law_3165 (by decide) ?_
        refine G.drop [true, true, true, true, true, false, false, false] rfl ?_
        cases hF
        exact hgo _ rfl
      · have hF := (if_neg c491).symm.trans hF
        cases hF
  · have hF := (if_neg c488).symm.trans hF
    cases hF
def F_L_law_A2311 (a1 : Option Nat) (k1_8 : Option Nat) (k2_8 : Option Nat) (k3_8 : Option Nat) (x4_8 : Int32) (h_8 : HH) : Option ((Int32 × HH) ⊕ HH) :=
  Option.bind (aldI h_8 0 a1 (x4_8 + (1 : Int32))) fun v492 =>
  Option.bind (aldI h_8 0 a1 (x4_8 + (2 : Int32))) fun v493 =>
  b2 (F_X0_doesReset k1_8 v492 v493 k3_8 h_8) fun v495 h494 =>
  Option.bind (aldI h494 0 a1 (x4_8 + (1 : Int32))) fun v496 =>
  Option.bind (aldI h494 0 a1 (x4_8 + (2 : Int32))) fun v497 =>
  Option.bind (isO h494 1 k2_8) fun ob498 =>
  b2 (F_X4_doesReset ob498 v496 v497 h494) fun v500 h499 =>
  Option.bind (isO h499 1 k2_8) fun ob501 =>
  Option.bind (F_X4_thrown ob501 h499) fun v502 =>
  if v502 = v495 then (
    if v495 = 0 then (
      Option.bind (aldJ h499 4 k3_8 (0 : Int32)) fun v505 =>
      if (lg_cmp v505 (if v500 = 0 then (0 : Int64) else (1 : Int64))) = 0 then (
        some (.inl ((x4_8 + (5 : Int32)), h499))
      ) else (
        none
      )
    ) else (
      some (.inl ((x4_8 + (5 : Int32)), h499))
    )
  ) else (
    none
  )
set_option maxHeartbeats 4000000 in
theorem w_L_law_A2311 {p : Program} {l : Launch} {e : Env} {R : Room} {s : State} {m : MethodId} {args : Array Value} {below : List Frame} {meth : Method} {c : Code} {Q : State → Prop} {D : va_G} {dA : Nat → ClassId} {h0 : HH} (hl : l.stackTraces = false) (X : FX p l s m args meth R c cL_law 8 "FerryClocksLaw" D dA h0 []) (hRf : R.frames = 8192) (hRl : R.locals = 100000) (a1 : Option Nat) (k1_8 : Option Nat) (k2_8 : Option Nat) (k3_8 : Option Nat) (x4_8 : Int32) (h_8 : HH) (o : (Int32 × HH) ⊕ HH) : F_L_law_A2311 a1 k1_8 k2_8 k3_8 x4_8 h_8 = some o → (∀ y, o = .inl y → (fun z => G p l e R s m args below meth c Q D dA h0 8 z.2 23 [some (va_rf a1), some (va_rf k1_8), some (va_rf k2_8), some (va_rf k3_8), some (.int z.1), none, none, none] []) y) → (∀ r, o = .inr r → (fun z => G p l e R s m args below meth c Q D dA h0 8 z 3168 [none, none, none, none, none, none, none, none] []) r) → G p l e R s m args below meth c Q D dA h0 8 h_8 2311 [some (va_rf a1), some (va_rf k1_8), some (va_rf k2_8), some (va_rf k3_8), some (.int x4_8), none, none, none] [] := by
  intro hF hgo hr
  unfold F_L_law_A2311 at hF
  refine g_aload_n X dL_law_2311 rfl rfl ?_
  refine g_aload_n X dL_law_2312 rfl rfl ?_
  refine g_iload X dL_law_2313 rfl ?_
  refine g_iconst (v := (1 : Int32)) X dL_law_2315 (by decide) ?_
  refine g_iadd X dL_law_2316 ?_
  obtain ⟨v492, ev492, hF⟩ := bnd hF
  refine g_iald X ev492 dL_law_2317 ?_
  refine g_aload_n X dL_law_2318 rfl rfl ?_
  refine g_iload X dL_law_2319 rfl ?_
  refine g_iconst (v := (2 : Int32)) X dL_law_2321 (by decide) ?_
  refine g_iadd X dL_law_2322 ?_
  obtain ⟨v493, ev493, hF⟩ := bnd hF
  refine g_iald X ev493 dL_law_2323 ?_
  refine g_aload_n X dL_law_2324 rfl rfl ?_
  obtain ⟨v495, h494, eh494, hF⟩ := b2_some hF
  refine g_callS X (w_X0_doesReset l hl D dA h_8 k1_8 v492 v493 k3_8 v495 h494 eh494) q1399 q1400 q91 q1401 okn_X0_doesReset ⟨by rw [hRf]; exact Nat.le_of_ble_eq_true rfl, by rw [hRl]; exact Nat.le_of_ble_eq_true rfl⟩ (As := [va_rf k1_8, .int v492, .int v493, va_rf k3_8]) (rest := []) rfl (by first | exact Nat.le_of_ble_eq_true rfl | simp [cat_rf, cat_i, cat_j, cat_f, cat_d]) dL_law_2325 (ac_v ?_)
  refine g_istore (L' := [some (va_rf a1), some (va_rf k1_8), some (va_rf k2_8), some (va_rf k3_8), some (.int x4_8), some (.int v495), none, none]) X dL_law_2328 (Nat.le_of_ble_eq_true rfl) (by first | rfl | simp [stL, rm1, clr2, cat_rf, cat_i, cat_j, cat_f, cat_d]) ?_
  refine g_aload_n X dL_law_2330 rfl rfl ?_
  refine g_aload_n X dL_law_2331 rfl rfl ?_
  refine g_iload X dL_law_2332 rfl ?_
  refine g_iconst (v := (1 : Int32)) X dL_law_2334 (by decide) ?_
  refine g_iadd X dL_law_2335 ?_
  obtain ⟨v496, ev496, hF⟩ := bnd hF
  refine g_iald X ev496 dL_law_2336 ?_
  refine g_aload_n X dL_law_2337 rfl rfl ?_
  refine g_iload X dL_law_2338 rfl ?_
  refine g_iconst (v := (2 : Int32)) X dL_law_2340 (by decide) ?_
  refine g_iadd X dL_law_2341 ?_
  obtain ⟨v497, ev497, hF⟩ := bnd hF
  refine g_iald X ev497 dL_law_2342 ?_
  obtain ⟨ob498, eob498, hF⟩ := bnd hF
  obtain ⟨v500, h499, eh499, hF⟩ := b2_some hF
  refine g_callV X eob498 rfl rfl (w_X4_doesReset l hl D dA h494 ob498 v496 v497 v500 h499 eh499) q2198 q2199 q2200 q103 q2201 okn_X4_doesReset ⟨by rw [hRf]; exact Nat.le_of_ble_eq_true rfl, by rw [hRl]; exact Nat.le_of_ble_eq_true rfl⟩ (As := [.int v496, .int v497]) (rest := []) rfl (by first | exact Nat.le_of_ble_eq_true rfl | simp [cat_rf, cat_i, cat_j, cat_f, cat_d]) dL_law_2343 (ac_v ?_)
  refine g_istore (L' := [some (va_rf a1), some (va_rf k1_8), some (va_rf k2_8), some (va_rf k3_8), some (.int x4_8), some (.int v495), some (.int v500), none]) X dL_law_2346 (Nat.le_of_ble_eq_true rfl) (by first | rfl | simp [stL, rm1, clr2, cat_rf, cat_i, cat_j, cat_f, cat_d]) ?_
  refine g_aload_n X dL_law_2348 rfl rfl ?_
  obtain ⟨ob501, eob501, hF⟩ := bnd hF
  obtain ⟨v502, ev502, hF⟩ := bnd hF
  refine g_callV X eob501 rfl rfl (w_X4_thrown l hl D dA h499 ob501  v502 ev502) q1851 q1852 q1853 q103 q1854 okn_X4_thrown ⟨by rw [hRf]; exact Nat.le_of_ble_eq_true rfl, by rw [hRl]; exact Nat.le_of_ble_eq_true rfl⟩ (As := []) (rest := []) rfl (by first | exact Nat.le_of_ble_eq_true rfl | simp [cat_rf, cat_i, cat_j, cat_f, cat_d]) dL_law_2349 (ac_v ?_)
  refine g_iload X dL_law_2352 rfl ?_
  refine g_icmp_eq X 2359 dL_law_2354 (by decide) (fun c503 => ?_) (fun c503 => ?_)
  · have hF := (if_pos c503).symm.trans hF
    refine g_iload X dL_law_2359 rfl ?_
    refine g_if_ne X 2383 dL_law_2361 (by decide) (fun c504 => ?_) (fun c504 => ?_)
    · have hF := (if_neg c504).symm.trans hF
      refine g_goto X 3162 dL_law_2383 (by decide) ?_
      refine g_iinc (v := (x4_8 + (5 : Int32))) (L' := [some (va_rf a1), some (va_rf k1_8), some (va_rf k2_8), some (va_rf k3_8), some (.int (x4_8 + (5 : Int32))), some (.int v495), some (.int v500), none]) X dL_law_3162 (Nat.le_of_ble_eq_true rfl) rfl rfl (by first | rfl | simp [stL, rm1, clr2, cat_rf, cat_i, cat_j, cat_f, cat_d]) ?_
      refine g_goto X 23 dL_law_3165 (by decide) ?_
      refine G.drop [true, true, true, true, true, false, false, false] rfl ?_
      cases hF
      exact hgo _ rfl
    · have hF := (if_pos c504).symm.trans hF
      refine g_aload_n X dL_law_2364 rfl rfl ?_
      refine g_iconst (v := (0 : Int32)) X dL_law_2365 (by decide) ?_
      obtain ⟨v505, ev505, hF⟩ := bnd hF
      refine g_lald X ev505 dL_law_2366 ?_
      refine g_iload X dL_law_2367 rfl ?_
      suffices K : G p l e R s m args below meth c Q D dA h0 8 h499 2377 [some (va_rf a1), some (va_rf k1_8), some (va_rf k2_8), some (va_rf k3_8), some (.int x4_8), none, none, none] [.long (if v500 = 0 then (0 : Int64) else (1 : Int64)), .long v505] by
        refine g_if_eq X 2376 dL_law_2369 (by decide) (fun c506 => ?_) (fun c506 => ?_)
        · (try simp only [if_pos c506] at K)
          refine g_lconst (v := (0 : Int64)) X dL_law_2376 (by decide) ?_
          refine G.drop [true, true, true, true, true, false, false, false] rfl ?_
          first | exact K | (simp only [if_pos c506]; exact K)
        · (try simp only [if_neg c506] at K)
          refine g_lconst (v := (1 : Int64)) X dL_law_2372 (by decide) ?_
          refine g_goto X 2377 dL_law_2373 (by decide) ?_
          refine G.drop [true, true, true, true, true, false, false, false] rfl ?_
          first | exact K | (simp only [if_neg c506]; exact K)
      refine g_lcmp X dL_law_2377 ?_
      refine g_if_eq X 2383 dL_law_2378 (by decide) (fun c507 => ?_) (fun c507 => ?_)
      · have hF := (if_pos c507).symm.trans hF
        refine g_goto X 3162 dL_law_2383 (by decide) ?_
        refine g_iinc (v := (x4_8 + (5 : Int32))) (L' := [some (va_rf a1), some (va_rf k1_8), some (va_rf k2_8), some (va_rf k3_8), some (.int (x4_8 + (5 : Int32))), none, none, none]) X dL_law_3162 (Nat.le_of_ble_eq_true rfl) rfl rfl (by first | rfl | simp [stL, rm1, clr2, cat_rf, cat_i, cat_j, cat_f, cat_d]) ?_
        refine g_goto X 23 dL_law_3165 (by decide) ?_
        cases hF
        exact hgo _ rfl
      · have hF := (if_neg c507).symm.trans hF
        cases hF
  · have hF := (if_neg c503).symm.trans hF
    cases hF
def F_L_law_A2386 (a1 : Option Nat) (k1_8 : Option Nat) (k2_8 : Option Nat) (k3_8 : Option Nat) (x4_8 : Int32) (h_8 : HH) : Option ((Int32 × HH) ⊕ HH) :=
  b2 (F_X0_reachable k1_8 k3_8 h_8) fun v509 h508 =>
  Option.bind (isO h508 1 k2_8) fun ob510 =>
  b2 (F_X4_reachable ob510 h508) fun v512 h511 =>
  Option.bind (isO h511 1 k2_8) fun ob513 =>
  Option.bind (F_X4_thrown ob513 h511) fun v514 =>
  if v514 = v509 then (
    if v509 = 0 then (
      Option.bind (aldJ h511 4 k3_8 (0 : Int32)) fun v517 =>
      if (lg_cmp v517 (v512.toInt64)) = 0 then (
        some (.inl ((x4_8 + (5 : Int32)), h511))
      ) else (
        none
      )
    ) else (
      some (.inl ((x4_8 + (5 : Int32)), h511))
    )
  ) else (
    none
  )
set_option maxHeartbeats 4000000 in
theorem w_L_law_A2386 {p : Program} {l : Launch} {e : Env} {R : Room} {s : State} {m : MethodId} {args : Array Value} {below : List Frame} {meth : Method} {c : Code} {Q : State → Prop} {D : va_G} {dA : Nat → ClassId} {h0 : HH} (hl : l.stackTraces = false) (X : FX p l s m args meth R c cL_law 8 "FerryClocksLaw" D dA h0 []) (hRf : R.frames = 8192) (hRl : R.locals = 100000) (a1 : Option Nat) (k1_8 : Option Nat) (k2_8 : Option Nat) (k3_8 : Option Nat) (x4_8 : Int32) (h_8 : HH) (o : (Int32 × HH) ⊕ HH) : F_L_law_A2386 a1 k1_8 k2_8 k3_8 x4_8 h_8 = some o → (∀ y, o = .inl y → (fun z => G p l e R s m args below meth c Q D dA h0 8 z.2 23 [some (va_rf a1), some (va_rf k1_8), some (va_rf k2_8), some (va_rf k3_8), some (.int z.1), none, none, none] []) y) → (∀ r, o = .inr r → (fun z => G p l e R s m args below meth c Q D dA h0 8 z 3168 [none, none, none, none, none, none, none, none] []) r) → G p l e R s m args below meth c Q D dA h0 8 h_8 2386 [some (va_rf a1), some (va_rf k1_8), some (va_rf k2_8), some (va_rf k3_8), some (.int x4_8), none, none, none] [] := by
  intro hF hgo hr
  unfold F_L_law_A2386 at hF
  refine g_aload_n X dL_law_2386 rfl rfl ?_
  refine g_aload_n X dL_law_2387 rfl rfl ?_
  obtain ⟨v509, h508, eh508, hF⟩ := b2_some hF
  refine g_callS X (w_X0_reachable l hl D dA h_8 k1_8 k3_8 v509 h508 eh508) q1407 q1408 q91 q1409 okn_X0_reachable ⟨by rw [hRf]; exact Nat.le_of_ble_eq_true rfl, by rw [hRl]; exact Nat.le_of_ble_eq_true rfl⟩ (As := [va_rf k1_8, va_rf k3_8]) (rest := []) rfl (by first | exact Nat.le_of_ble_eq_true rfl | simp [cat_rf, cat_i, cat_j, cat_f, cat_d]) dL_law_2388 (ac_v ?_)
  refine g_istore (L' := [some (va_rf a1), some (va_rf k1_8), some (va_rf k2_8), some (va_rf k3_8), some (.int x4_8), some (.int v509), none, none]) X dL_law_2391 (Nat.le_of_ble_eq_true rfl) (by first | rfl | simp [stL, rm1, clr2, cat_rf, cat_i, cat_j, cat_f, cat_d]) ?_
  refine g_aload_n X dL_law_2393 rfl rfl ?_
  obtain ⟨ob510, eob510, hF⟩ := bnd hF
  obtain ⟨v512, h511, eh511, hF⟩ := b2_some hF
  refine g_callV X eob510 rfl rfl (w_X4_reachable l hl D dA h508 ob510  v512 h511 eh511) q2202 q2203 q2204 q103 q2205 okn_X4_reachable ⟨by rw [hRf]; exact Nat.le_of_ble_eq_true rfl, by rw [hRl]; exact Nat.le_of_ble_eq_true rfl⟩ (As := []) (rest := []) rfl (by first | exact Nat.le_of_ble_eq_true rfl | simp [cat_rf, cat_i, cat_j, cat_f, cat_d]) dL_law_2394 (ac_v ?_)
  refine g_istore (L' := [some (va_rf a1), some (va_rf k1_8), some (va_rf k2_8), some (va_rf k3_8), some (.int x4_8), some (.int v509), some (.int v512), none]) X dL_law_2397 (Nat.le_of_ble_eq_true rfl) (by first | rfl | simp [stL, rm1, clr2, cat_rf, cat_i, cat_j, cat_f, cat_d]) ?_
  refine g_aload_n X dL_law_2399 rfl rfl ?_
  obtain ⟨ob513, eob513, hF⟩ := bnd hF
  obtain ⟨v514, ev514, hF⟩ := bnd hF
  refine g_callV X eob513 rfl rfl (w_X4_thrown l hl D dA h511 ob513  v514 ev514) q1851 q1852 q1853 q103 q1854 okn_X4_thrown ⟨by rw [hRf]; exact Nat.le_of_ble_eq_true rfl, by rw [hRl]; exact Nat.le_of_ble_eq_true rfl⟩ (As := []) (rest := []) rfl (by first | exact Nat.le_of_ble_eq_true rfl | simp [cat_rf, cat_i, cat_j, cat_f, cat_d]) dL_law_2400 (ac_v ?_)
  refine g_iload X dL_law_2403 rfl ?_
  refine g_icmp_eq X 2410 dL_law_2405 (by decide) (fun c515 => ?_) (fun c515 => ?_)
  · have hF := (if_pos c515).symm.trans hF
    refine g_iload X dL_law_2410 rfl ?_
    refine g_if_ne X 2427 dL_law_2412 (by decide) (fun c516 => ?_) (fun c516 => ?_)
    · have hF := (if_neg c516).symm.trans hF
      refine g_goto X 3162 dL_law_2427 (by decide) ?_
      refine g_iinc (v := (x4_8 + (5 : Int32))) (L' := [some (va_rf a1), some (va_rf k1_8), some (va_rf k2_8), some (va_rf k3_8), some (.int (x4_8 + (5 : Int32))), some (.int v509), some (.int v512), none]) X dL_law_3162 (Nat.le_of_ble_eq_true rfl) rfl rfl (by first | rfl | simp [stL, rm1, clr2, cat_rf, cat_i, cat_j, cat_f, cat_d]) ?_
      refine g_goto X 23 dL_law_3165 (by decide) ?_
      refine G.drop [true, true, true, true, true, false, false, false] rfl ?_
      cases hF
      exact hgo _ rfl
    · have hF := (if_pos c516).symm.trans hF
      refine g_aload_n X dL_law_2415 rfl rfl ?_
      refine g_iconst (v := (0 : Int32)) X dL_law_2416 (by decide) ?_
      obtain ⟨v517, ev517, hF⟩ := bnd hF
      refine g_lald X ev517 dL_law_2417 ?_
      refine g_iload X dL_law_2418 rfl ?_
      refine g_i2l X dL_law_2420 ?_
      refine g_lcmp X dL_law_2421 ?_
      refine g_if_eq X 2427 dL_law_2422 (by decide) (fun c518 => ?_) (fun c518 => ?_)
      · have hF := (if_pos c518).symm.trans hF
        refine g_goto X 3162 dL_law_2427 (by decide) ?_
        refine g_iinc (v := (x4_8 + (5 : Int32))) (L' := [some (va_rf a1), some (va_rf k1_8), some (va_rf k2_8), some (va_rf k3_8), some (.int (x4_8 + (5 : Int32))), some (.int v509), some (.int v512), none]) X dL_law_3162 (Nat.le_of_ble_eq_true rfl) rfl rfl (by first | rfl | simp [stL, rm1, clr2, cat_rf, cat_i, cat_j, cat_f, cat_d]) ?_
        refine g_goto X 23 dL_law_3165 (by decide) ?_
        refine G.drop [true, true, true, true, true, false, false, false] rfl ?_
        cases hF
        exact hgo _ rfl
      · have hF := (if_neg c518).symm.trans hF
        cases hF
  · have hF := (if_neg c515).symm.trans hF
    cases hF
def F_L_law_A2430 (a1 : Option Nat) (k1_8 : Option Nat) (k2_8 : Option Nat) (k3_8 : Option Nat) (x4_8 : Int32) (h_8 : HH) : Option ((Int32 × HH) ⊕ HH) :=
  Option.bind (isO h_8 0 k1_8) fun ob519 =>
  b2 (F_X1_reachableByMoments ob519 h_8) fun v521 h520 =>
  Option.bind (isO h520 1 k2_8) fun ob522 =>
  b2 (F_X4_reachableByMoments ob522 h520) fun v524 h523 =>
  if v521 = v524 then (
    some (.inl ((x4_8 + (5 : Int32)), h523))
  ) else (
    none
  )
set_option maxHeartbeats 4000000 in
theorem w_L_law_A2430 {p : Program} {l : Launch} {e : Env} {R : Room} {s : State} {m : MethodId} {args : Array Value} {below : List Frame} {meth : Method} {c : Code} {Q : State → Prop} {D : va_G} {dA : Nat → ClassId} {h0 : HH} (hl : l.stackTraces = false) (X : FX p l s m args meth R c cL_law 8 "FerryClocksLaw" D dA h0 []) (hRf : R.frames = 8192) (hRl : R.locals = 100000) (a1 : Option Nat) (k1_8 : Option Nat) (k2_8 : Option Nat) (k3_8 : Option Nat) (x4_8 : Int32) (h_8 : HH) (o : (Int32 × HH) ⊕ HH) : F_L_law_A2430 a1 k1_8 k2_8 k3_8 x4_8 h_8 = some o → (∀ y, o = .inl y → (fun z => G p l e R s m args below meth c Q D dA h0 8 z.2 23 [some (va_rf a1), some (va_rf k1_8), some (va_rf k2_8), some (va_rf k3_8), some (.int z.1), none, none, none] []) y) → (∀ r, o = .inr r → (fun z => G p l e R s m args below meth c Q D dA h0 8 z 3168 [none, none, none, none, none, none, none, none] []) r) → G p l e R s m args below meth c Q D dA h0 8 h_8 2430 [some (va_rf a1), some (va_rf k1_8), some (va_rf k2_8), some (va_rf k3_8), some (.int x4_8), none, none, none] [] := by
  intro hF hgo hr
  unfold F_L_law_A2430 at hF
  refine g_aload_n X dL_law_2430 rfl rfl ?_
  obtain ⟨ob519, eob519, hF⟩ := bnd hF
  obtain ⟨v521, h520, eh520, hF⟩ := b2_some hF
  refine g_callV X eob519 rfl rfl (w_X1_reachableByMoments l hl D dA h_8 ob519  v521 h520 eh520) q819 q820 q821 q92 q822 okn_X1_reachableByMoments ⟨by rw [hRf]; exact Nat.le_of_ble_eq_true rfl, by rw [hRl]; exact Nat.le_of_ble_eq_true rfl⟩ (As := []) (rest := []) rfl (by first | exact Nat.le_of_ble_eq_true rfl | simp [cat_rf, cat_i, cat_j, cat_f, cat_d]) dL_law_2431 (ac_v ?_)
  refine g_aload_n X dL_law_2434 rfl rfl ?_
  obtain ⟨ob522, eob522, hF⟩ := bnd hF
  obtain ⟨v524, h523, eh523, hF⟩ := b2_some hF
  refine g_callV X eob522 rfl rfl (w_X4_reachableByMoments l hl D dA h520 ob522  v524 h523 eh523) q2250 q2251 q2252 q103 q2253 okn_X4_reachableByMoments ⟨by rw [hRf]; exact Nat.le_of_ble_eq_true rfl, by rw [hRl]; exact Nat.le_of_ble_eq_true rfl⟩ (As := []) (rest := [.int v521]) rfl (by first | exact Nat.le_of_ble_eq_true rfl | simp [cat_rf, cat_i, cat_j, cat_f, cat_d]) dL_law_2435 (ac_v ?_)
  refine g_icmp_eq X 3162 dL_law_2438 (by decide) (fun c525 => ?_) (fun c525 => ?_)
  · have hF := (if_pos c525).symm.trans hF
    refine g_iinc (v := (x4_8 + (5 : Int32))) (L' := [some (va_rf a1), some (va_rf k1_8), some (va_rf k2_8), some (va_rf k3_8), some (.int (x4_8 + (5 : Int32))), none, none, none]) X dL_law_3162 (Nat.le_of_ble_eq_true rfl) rfl rfl (by first | rfl | simp [stL, rm1, clr2, cat_rf, cat_i, cat_j, cat_f, cat_d]) ?_
    refine g_goto X 23 dL_law_3165 (by decide) ?_
    cases hF
    exact hgo _ rfl
  · have hF := (if_neg c525).symm.trans hF
    cases hF
def F_L_law_A2443 (a1 : Option Nat) (k1_8 : Option Nat) (k2_8 : Option Nat) (k3_8 : Option Nat) (x4_8 : Int32) (h_8 : HH) : Option ((Int32 × HH) ⊕ HH) :=
  b2 (F_X0_zones k1_8 k3_8 h_8) fun v527 h526 =>
  Option.bind (isO h526 1 k2_8) fun ob528 =>
  b2 (F_X4_zones ob528 h526) fun v530 h529 =>
  Option.bind (isO h529 1 k2_8) fun ob531 =>
  Option.bind (F_X4_thrown ob531 h529) fun v532 =>
  if v532 = v527 then (
    if v527 = 0 then (
      Option.bind (aldJ h529 4 k3_8 (0 : Int32)) fun v535 =>
      if (lg_cmp v535 (v530.toInt64)) = 0 then (
        some (.inl ((x4_8 + (5 : Int32)), h529))
      ) else (
        none
      )
    ) else (
      some (.inl ((x4_8 + (5 : Int32)), h529))
    )
  ) else (
    none
  )
set_option maxHeartbeats 4000000 in
theorem w_L_law_A2443 {p : Program} {l : Launch} {e : Env} {R : Room} {s : State} {m : MethodId} {args : Array Value} {below : List Frame} {meth : Method} {c : Code} {Q : State → Prop} {D : va_G} {dA : Nat → ClassId} {h0 : HH} (hl : l.stackTraces = false) (X : FX p l s m args meth R c cL_law 8 "FerryClocksLaw" D dA h0 []) (hRf : R.frames = 8192) (hRl : R.locals = 100000) (a1 : Option Nat) (k1_8 : Option Nat) (k2_8 : Option Nat) (k3_8 : Option Nat) (x4_8 : Int32) (h_8 : HH) (o : (Int32 × HH) ⊕ HH) : F_L_law_A2443 a1 k1_8 k2_8 k3_8 x4_8 h_8 = some o → (∀ y, o = .inl y → (fun z => G p l e R s m args below meth c Q D dA h0 8 z.2 23 [some (va_rf a1), some (va_rf k1_8), some (va_rf k2_8), some (va_rf k3_8), some (.int z.1), none, none, none] []) y) → (∀ r, o = .inr r → (fun z => G p l e R s m args below meth c Q D dA h0 8 z 3168 [none, none, none, none, none, none, none, none] []) r) → G p l e R s m args below meth c Q D dA h0 8 h_8 2443 [some (va_rf a1), some (va_rf k1_8), some (va_rf k2_8), some (va_rf k3_8), some (.int x4_8), none, none, none] [] := by
  intro hF hgo hr
  unfold F_L_law_A2443 at hF
  refine g_aload_n X dL_law_2443 rfl rfl ?_
  refine g_aload_n X dL_law_2444 rfl rfl ?_
  obtain ⟨v527, h526, eh526, hF⟩ := b2_some hF
  refine g_callS X (w_X0_zones l hl D dA h_8 k1_8 k3_8 v527 h526 eh526) q1480 q1481 q91 q1482 okn_X0_zones ⟨by rw [hRf]; exact Nat.le_of_ble_eq_true rfl, by rw [hRl]; exact Nat.le_of_ble_eq_true rfl⟩ (As := [va_rf k1_8, va_rf k3_8]) (rest := []) rfl (by first | exact Nat.le_of_ble_eq_true rfl | simp [cat_rf, cat_i, cat_j, cat_f, cat_d]) dL_law_2445 (ac_v ?_)
  refine g_istore (L' := [some (va_rf a1), some (va_rf k1_8), some (va_rf k2_8), some (va_rf k3_8), some (.int x4_8), some (.int v527), none, none]) X dL_law_2448 (Nat.le_of_ble_eq_true rfl) (by first | rfl | simp [stL, rm1, clr2, cat_rf, cat_i, cat_j, cat_f, cat_d]) ?_
  refine g_aload_n X dL_law_2450 rfl rfl ?_
  obtain ⟨ob528, eob528, hF⟩ := bnd hF
  obtain ⟨v530, h529, eh529, hF⟩ := b2_some hF
  refine g_callV X eob528 rfl rfl (w_X4_zones l hl D dA h526 ob528  v530 h529 eh529) q2234 q2235 q2236 q103 q2237 okn_X4_zones ⟨by rw [hRf]; exact Nat.le_of_ble_eq_true rfl, by rw [hRl]; exact Nat.le_of_ble_eq_true rfl⟩ (As := []) (rest := []) rfl (by first | exact Nat.le_of_ble_eq_true rfl | simp [cat_rf, cat_i, cat_j, cat_f, cat_d]) dL_law_2451 (ac_v ?_)
  refine g_istore (L' := [some (va_rf a1), some (va_rf k1_8), some (va_rf k2_8), some (va_rf k3_8), some (.int x4_8), some (.int v527), some (.int v530), none]) X dL_law_2454 (Nat.le_of_ble_eq_true rfl) (by first | rfl | simp [stL, rm1, clr2, cat_rf, cat_i, cat_j, cat_f, cat_d]) ?_
  refine g_aload_n X dL_law_2456 rfl rfl ?_
  obtain ⟨ob531, eob531, hF⟩ := bnd hF
  obtain ⟨v532, ev532, hF⟩ := bnd hF
  refine g_callV X eob531 rfl rfl (w_X4_thrown l hl D dA h529 ob531  v532 ev532) q1851 q1852 q1853 q103 q1854 okn_X4_thrown ⟨by rw [hRf]; exact Nat.le_of_ble_eq_true rfl, by rw [hRl]; exact Nat.le_of_ble_eq_true rfl⟩ (As := []) (rest := []) rfl (by first | exact Nat.le_of_ble_eq_true rfl | simp [cat_rf, cat_i, cat_j, cat_f, cat_d]) dL_law_2457 (ac_v ?_)
  refine g_iload X dL_law_2460 rfl ?_
  refine g_icmp_eq X 2467 dL_law_2462 (by decide) (fun c533 => ?_) (fun c533 => ?_)
  · have hF := (if_pos c533).symm.trans hF
    refine g_iload X dL_law_2467 rfl ?_
    refine g_if_ne X 2484 dL_law_2469 (by decide) (fun c534 => ?_) (fun c534 => ?_)
    · have hF := (if_neg c534).symm.trans hF
      refine g_goto X 3162 dL_law_2484 (by decide) ?_
      refine g_iinc (v := (x4_8 + (5 : Int32))) (L' := [some (va_rf a1), some (va_rf k1_8), some (va_rf k2_8), some (va_rf k3_8), some (.int (x4_8 + (5 : Int32))), some (.int v527), some (.int v530), none]) X dL_law_3162 (Nat.le_of_ble_eq_true rfl) rfl rfl (by first | rfl | simp [stL, rm1, clr2, cat_rf, cat_i, cat_j, cat_f, cat_d]) ?_
      refine g_goto X 23 dL_law_3165 (by decide) ?_
      refine G.drop [true, true, true, true, true, false, false, false] rfl ?_
      cases hF
      exact hgo _ rfl
    · have hF := (if_pos c534).symm.trans hF
      refine g_aload_n X dL_law_2472 rfl rfl ?_
      refine g_iconst (v := (0 : Int32)) X dL_law_2473 (by decide) ?_
      obtain ⟨v535, ev535, hF⟩ := bnd hF
      refine g_lald X ev535 dL_law_2474 ?_
      refine g_iload X dL_law_2475 rfl ?_
      refine g_i2l X dL_law_2477 ?_
      refine g_lcmp X dL_law_2478 ?_
      refine g_if_eq X 2484 dL_law_2479 (by decide) (fun c536 => ?_) (fun c536 => ?_)
      · have hF := (if_pos c536).symm.trans hF
        refine g_goto X 3162 dL_law_2484 (by decide) ?_
        refine g_iinc (v := (x4_8 + (5 : Int32))) (L' := [some (va_rf a1), some (va_rf k1_8), some (va_rf k2_8), some (va_rf k3_8), some (.int (x4_8 + (5 : Int32))), some (.int v527), some (.int v530), none]) X dL_law_3162 (Nat.le_of_ble_eq_true rfl) rfl rfl (by first | rfl | simp [stL, rm1, clr2, cat_rf, cat_i, cat_j, cat_f, cat_d]) ?_
        refine g_goto X 23 dL_law_3165 (by decide) ?_
        refine G.drop [true, true, true, true, true, false, false, false] rfl ?_
        cases hF
        exact hgo _ rfl
      · have hF := (if_neg c536).symm.trans hF
        cases hF
  · have hF := (if_neg c533).symm.trans hF
    cases hF
def F_L_law_A2487 (a1 : Option Nat) (k1_8 : Option Nat) (k2_8 : Option Nat) (k3_8 : Option Nat) (x4_8 : Int32) (h_8 : HH) : Option ((Int32 × HH) ⊕ HH) :=
  Option.bind (aldI h_8 0 a1 (x4_8 + (1 : Int32))) fun v537 =>
  b2 (F_X0_zonesOf k1_8 v537 k3_8 h_8) fun v539 h538 =>
  Option.bind (aldI h538 0 a1 (x4_8 + (1 : Int32))) fun v540 =>
  Option.bind (isO h538 1 k2_8) fun ob541 =>
  b2 (F_X4_zonesOf ob541 v540 h538) fun v543 h542 =>
  Option.bind (isO h542 1 k2_8) fun ob544 =>
  Option.bind (F_X4_thrown ob544 h542) fun v545 =>
  if v545 = v539 then (
    if v539 = 0 then (
      Option.bind (aldJ h542 4 k3_8 (0 : Int32)) fun v548 =>
      if (lg_cmp v548 (v543.toInt64)) = 0 then (
        some (.inl ((x4_8 + (5 : Int32)), h542))
      ) else (
        none
      )
    ) else (
      some (.inl ((x4_8 + (5 : Int32)), h542))
    )
  ) else (
    none
  )
set_option maxHeartbeats 4000000 in
theorem w_L_law_A2487 {p : Program} {l : Launch} {e : Env} {R : Room} {s : State} {m : MethodId} {args : Array Value} {below : List Frame} {meth : Method} {c : Code} {Q : State → Prop} {D : va_G} {dA : Nat → ClassId} {h0 : HH} (hl : l.stackTraces = false) (X : FX p l s m args meth R c cL_law 8 "FerryClocksLaw" D dA h0 []) (hRf : R.frames = 8192) (hRl : R.locals = 100000) (a1 : Option Nat) (k1_8 : Option Nat) (k2_8 : Option Nat) (k3_8 : Option Nat) (x4_8 : Int32) (h_8 : HH) (o : (Int32 × HH) ⊕ HH) : F_L_law_A2487 a1 k1_8 k2_8 k3_8 x4_8 h_8 = some o → (∀ y, o = .inl y → (fun z => G p l e R s m args below meth c Q D dA h0 8 z.2 23 [some (va_rf a1), some (va_rf k1_8), some (va_rf k2_8), some (va_rf k3_8), some (.int z.1), none, none, none] []) y) → (∀ r, o = .inr r → (fun z => G p l e R s m args below meth c Q D dA h0 8 z 3168 [none, none, none, none, none, none, none, none] []) r) → G p l e R s m args below meth c Q D dA h0 8 h_8 2487 [some (va_rf a1), some (va_rf k1_8), some (va_rf k2_8), some (va_rf k3_8), some (.int x4_8), none, none, none] [] := by
  intro hF hgo hr
  unfold F_L_law_A2487 at hF
  refine g_aload_n X dL_law_2487 rfl rfl ?_
  refine g_aload_n X dL_law_2488 rfl rfl ?_
  refine g_iload X dL_law_2489 rfl ?_
  refine g_iconst (v := (1 : Int32)) X dL_law_2491 (by decide) ?_
  refine g_iadd X dL_law_2492 ?_
  obtain ⟨v537, ev537, hF⟩ := bnd hF
  refine g_iald X ev537 dL_law_2493 ?_
  refine g_aload_n X dL_law_2494 rfl rfl ?_
  obtain ⟨v539, h538, eh538, hF⟩ := b2_some hF
  refine g_callS X (w_X0_zonesOf l hl D dA h_8 k1_8 v537 k3_8 v539 h538 eh538) q1487 q1488 q91 q1489 okn_X0_zonesOf ⟨by rw [hRf]; exact Nat.le_of_ble_eq_true rfl, by rw [hRl]; exact Nat.le_of_ble_eq_true rfl⟩ (As := [va_rf k1_8, .int v537, va_rf k3_8]) (rest := []) rfl (by first | exact Nat.le_of_ble_eq_true rfl | simp [cat_rf, cat_i, cat_j, cat_f, cat_d]) dL_law_2495 (ac_v ?_)
  refine g_istore (L' := [some (va_rf a1), some (va_rf k1_8), some (va_rf k2_8), some (va_rf k3_8), some (.int x4_8), some (.int v539), none, none]) X dL_law_2498 (Nat.le_of_ble_eq_true rfl) (by first | rfl | simp [stL, rm1, clr2, cat_rf, cat_i, cat_j, cat_f, cat_d]) ?_
  refine g_aload_n X dL_law_2500 rfl rfl ?_
  refine g_aload_n X dL_law_2501 rfl rfl ?_
  refine g_iload X dL_law_2502 rfl ?_
  refine g_iconst (v := (1 : Int32)) X dL_law_2504 (by decide) ?_
  refine g_iadd X dL_law_2505 ?_
  obtain ⟨v540, ev540, hF⟩ := bnd hF
  refine g_iald X ev540 dL_law_2506 ?_
  obtain ⟨ob541, eob541, hF⟩ := bnd hF
  obtain ⟨v543, h542, eh542, hF⟩ := b2_some hF
  refine g_callV X eob541 rfl rfl (w_X4_zonesOf l hl D dA h538 ob541 v540 v543 h542 eh542) q2238 q2239 q2240 q103 q2241 okn_X4_zonesOf ⟨by rw [hRf]; exact Nat.le_of_ble_eq_true rfl, by rw [hRl]; exact Nat.le_of_ble_eq_true rfl⟩ (As := [.int v540]) (rest := []) rfl (by first | exact Nat.le_of_ble_eq_true rfl | simp [cat_rf, cat_i, cat_j, cat_f, cat_d]) dL_law_2507 (ac_v ?_)
  refine g_istore (L' := [some (va_rf a1), some (va_rf k1_8), some (va_rf k2_8), some (va_rf k3_8), some (.int x4_8), some (.int v539), some (.int v543), none]) X dL_law_2510 (Nat.le_of_ble_eq_true rfl) (by first | rfl | simp [stL, rm1, clr2, cat_rf, cat_i, cat_j, cat_f, cat_d]) ?_
  refine g_aload_n X dL_law_2512 rfl rfl ?_
  obtain ⟨ob544, eob544, hF⟩ := bnd hF
  obtain ⟨v545, ev545, hF⟩ := bnd hF
  refine g_callV X eob544 rfl rfl (w_X4_thrown l hl D dA h542 ob544  v545 ev545) q1851 q1852 q1853 q103 q1854 okn_X4_thrown ⟨by rw [hRf]; exact Nat.le_of_ble_eq_true rfl, by rw [hRl]; exact Nat.le_of_ble_eq_true rfl⟩ (As := []) (rest := []) rfl (by first | exact Nat.le_of_ble_eq_true rfl | simp [cat_rf, cat_i, cat_j, cat_f, cat_d]) dL_law_2513 (ac_v ?_)
  refine g_iload X dL_law_2516 rfl ?_
  refine g_icmp_eq X 2523 dL_law_2518 (by decide) (fun c546 => ?_) (fun c546 => ?_)
  · have hF := (if_pos c546).symm.trans hF
    refine g_iload X dL_law_2523 rfl ?_
    refine g_if_ne X 2540 dL_law_2525 (by decide) (fun c547 => ?_) (fun c547 => ?_)
    · have hF := (if_neg c547).symm.trans hF
      refine g_goto X 3162 dL_law_2540 (by decide) ?_
      refine g_iinc (v := (x4_8 + (5 : Int32))) (L' := [some (va_rf a1), some (va_rf k1_8), some (va_rf k2_8), some (va_rf k3_8), some (.int (x4_8 + (5 : Int32))), some (.int v539), some (.int v543), none]) X dL_law_3162 (Nat.le_of_ble_eq_true rfl) rfl rfl (by first | rfl | simp [stL, rm1, clr2, cat_rf, cat_i, cat_j, cat_f, cat_d]) ?_
      refine g_goto X 23 dL_law_3165 (by decide) ?_
      refine G.drop [true, true, true, true, true, false, false, false] rfl ?_
      cases hF
      exact hgo _ rfl
    · have hF := (if_pos c547).symm.trans hF
      refine g_aload_n X dL_law_2528 rfl rfl ?_
      refine g_iconst (v := (0 : Int32)) X dL_law_2529 (by decide) ?_
      obtain ⟨v548, ev548, hF⟩ := bnd hF
      refine g_lald X ev548 dL_law_2530 ?_
      refine g_iload X dL_law_2531 rfl ?_
      refine g_i2l X dL_law_2533 ?_
      refine g_lcmp X dL_law_2534 ?_
      refine g_if_eq X 2540 dL_law_2535 (by decide) (fun c549 => ?_) (fun c549 => ?_)
      · have hF := (if_pos c549).symm.trans hF
        refine g_goto X 3162 dL_law_2540 (by decide) ?_
        refine g_iinc (v := (x4_8 + (5 : Int32))) (L' := [some (va_rf a1), some (va_rf k1_8), some (va_rf k2_8), some (va_rf k3_8), some (.int (x4_8 + (5 : Int32))), some (.int v539), some (.int v543), none]) X dL_law_3162 (Nat.le_of_ble_eq_true rfl) rfl rfl (by first | rfl | simp [stL, rm1, clr2, cat_rf, cat_i, cat_j, cat_f, cat_d]) ?_
        refine g_goto X 23 dL_law_3165 (by decide) ?_
        refine G.drop [true, true, true, true, true, false, false, false] rfl ?_
        cases hF
        exact hgo _ rfl
      · have hF := (if_neg c549).symm.trans hF
        cases hF
  · have hF := (if_neg c546).symm.trans hF
    cases hF
def F_L_law_A2543 (a1 : Option Nat) (k1_8 : Option Nat) (k2_8 : Option Nat) (k3_8 : Option Nat) (x4_8 : Int32) (h_8 : HH) : Option ((Int32 × HH) ⊕ HH) :=
  Option.bind (aldI h_8 0 a1 (x4_8 + (1 : Int32))) fun v550 =>
  b2 (F_X0_fewestLines k1_8 v550 k3_8 h_8) fun v552 h551 =>
  Option.bind (aldI h551 0 a1 (x4_8 + (1 : Int32))) fun v553 =>
  Option.bind (isO h551 1 k2_8) fun ob554 =>
  b2 (F_X4_fewestLines ob554 v553 h551) fun v556 h555 =>
  Option.bind (isO h555 1 k2_8) fun ob557 =>
  Option.bind (F_X4_thrown ob557 h555) fun v558 =>
  if v558 = v552 then (
    if v552 = 0 then (
      Option.bind (aldJ h555 4 k3_8 (0 : Int32)) fun v561 =>
      if (lg_cmp v561 (v556.toInt64)) = 0 then (
        some (.inl ((x4_8 + (5 : Int32)), h555))
      ) else (
        none
      )
    ) else (
      some (.inl ((x4_8 + (5 : Int32)), h555))
    )
  ) else (
    none
  )
set_option maxHeartbeats 4000000 in
theorem w_L_law_A2543 {p : Program} {l : Launch} {e : Env} {R : Room} {s : State} {m : MethodId} {args : Array Value} {below : List Frame} {meth : Method} {c : Code} {Q : State → Prop} {D : va_G} {dA : Nat → ClassId} {h0 : HH} (hl : l.stackTraces = false) (X : FX p l s m args meth R c cL_law 8 "FerryClocksLaw" D dA h0 []) (hRf : R.frames = 8192) (hRl : R.locals = 100000) (a1 : Option Nat) (k1_8 : Option Nat) (k2_8 : Option Nat) (k3_8 : Option Nat) (x4_8 : Int32) (h_8 : HH) (o : (Int32 × HH) ⊕ HH) : F_L_law_A2543 a1 k1_8 k2_8 k3_8 x4_8 h_8 = some o → (∀ y, o = .inl y → (fun z => G p l e R s m args below meth c Q D dA h0 8 z.2 23 [some (va_rf a1), some (va_rf k1_8), some (va_rf k2_8), some (va_rf k3_8), some (.int z.1), none, none, none] []) y) → (∀ r, o = .inr r → (fun z => G p l e R s m args below meth c Q D dA h0 8 z 3168 [none, none, none, none, none, none, none, none] []) r) → G p l e R s m args below meth c Q D dA h0 8 h_8 2543 [some (va_rf a1), some (va_rf k1_8), some (va_rf k2_8), some (va_rf k3_8), some (.int x4_8), none, none, none] [] := by
  intro hF hgo hr
  unfold F_L_law_A2543 at hF
  refine g_aload_n X dL_law_2543 rfl rfl ?_
  refine g_aload_n X dL_law_2544 rfl rfl ?_
  refine g_iload X dL_law_2545 rfl ?_
  refine g_iconst (v := (1 : Int32)) X dL_law_2547 (by decide) ?_
  refine g_iadd X dL_law_2548 ?_
  obtain ⟨v550, ev550, hF⟩ := bnd hF
  refine g_iald X ev550 dL_law_2549 ?_
  refine g_aload_n X dL_law_2550 rfl rfl ?_
  obtain ⟨v552, h551, eh551, hF⟩ := b2_some hF
  refine g_callS X (w_X0_fewestLines l hl D dA h_8 k1_8 v550 k3_8 v552 h551 eh551) q1494 q1495 q91 q1496 okn_X0_fewestLines ⟨by rw [hRf]; exact Nat.le_of_ble_eq_true rfl, by rw [hRl]; exact Nat.le_of_ble_eq_true rfl⟩ (As := [va_rf k1_8, .int v550, va_rf k3_8]) (rest := []) rfl (by first | exact Nat.le_of_ble_eq_true rfl | simp [cat_rf, cat_i, cat_j, cat_f, cat_d]) dL_law_2551 (ac_v ?_)
  refine g_istore (L' := [some (va_rf a1), some (va_rf k1_8), some (va_rf k2_8), some (va_rf k3_8), some (.int x4_8), some (.int v552), none, none]) X dL_law_2554 (Nat.le_of_ble_eq_true rfl) (by first | rfl | simp [stL, rm1, clr2, cat_rf, cat_i, cat_j, cat_f, cat_d]) ?_
  refine g_aload_n X dL_law_2556 rfl rfl ?_
  refine g_aload_n X dL_law_2557 rfl rfl ?_
  refine g_iload X dL_law_2558 rfl ?_
  refine g_iconst (v := (1 : Int32)) X dL_law_2560 (by decide) ?_
  refine g_iadd X dL_law_2561 ?_
  obtain ⟨v553, ev553, hF⟩ := bnd hF
  refine g_iald X ev553 dL_law_2562 ?_
  obtain ⟨ob554, eob554, hF⟩ := bnd hF
  obtain ⟨v556, h555, eh555, hF⟩ := b2_some hF
  refine g_callV X eob554 rfl rfl (w_X4_fewestLines l hl D dA h551 ob554 v553 v556 h555 eh555) q2246 q2247 q2248 q103 q2249 okn_X4_fewestLines ⟨by rw [hRf]; exact Nat.le_of_ble_eq_true rfl, by rw [hRl]; exact Nat.le_of_ble_eq_true rfl⟩ (As := [.int v553]) (rest := []) rfl (by first | exact Nat.le_of_ble_eq_true rfl | simp [cat_rf, cat_i, cat_j, cat_f, cat_d]) dL_law_2563 (ac_v ?_)
  refine g_istore (L' := [some (va_rf a1), some (va_rf k1_8), some (va_rf k2_8), some (va_rf k3_8), some (.int x4_8), some (.int v552), some (.int v556), none]) X dL_law_2566 (Nat.le_of_ble_eq_true rfl) (by first | rfl | simp [stL, rm1, clr2, cat_rf, cat_i, cat_j, cat_f, cat_d]) ?_
  refine g_aload_n X dL_law_2568 rfl rfl ?_
  obtain ⟨ob557, eob557, hF⟩ := bnd hF
  obtain ⟨v558, ev558, hF⟩ := bnd hF
  refine g_callV X eob557 rfl rfl (w_X4_thrown l hl D dA h555 ob557  v558 ev558) q1851 q1852 q1853 q103 q1854 okn_X4_thrown ⟨by rw [hRf]; exact Nat.le_of_ble_eq_true rfl, by rw [hRl]; exact Nat.le_of_ble_eq_true rfl⟩ (As := []) (rest := []) rfl (by first | exact Nat.le_of_ble_eq_true rfl | simp [cat_rf, cat_i, cat_j, cat_f, cat_d]) dL_law_2569 (ac_v ?_)
  refine g_iload X dL_law_2572 rfl ?_
  refine g_icmp_eq X 2579 dL_law_2574 (by decide) (fun c559 => ?_) (fun c559 => ?_)
  · have hF := (if_pos c559).symm.trans hF
    refine g_iload X dL_law_2579 rfl ?_
    refine g_if_ne X 2596 dL_law_2581 (by decide) (fun c560 => ?_) (fun c560 => ?_)
    · have hF := (if_neg c560).symm.trans hF
      refine g_goto X 3162 dL_law_2596 (by decide) ?_
      refine g_iinc (v := (x4_8 + (5 : Int32))) (L' := [some (va_rf a1), some (va_rf k1_8), some (va_rf k2_8), some (va_rf k3_8), some (.int (x4_8 + (5 : Int32))), some (.int v552), some (.int v556), none]) X dL_law_3162 (Nat.le_of_ble_eq_true rfl) rfl rfl (by first | rfl | simp [stL, rm1, clr2, cat_rf, cat_i, cat_j, cat_f, cat_d]) ?_
      refine g_goto X 23 dL_law_3165 (by decide) ?_
      refine G.drop [true, true, true, true, true, false, false, false] rfl ?_
      cases hF
      exact hgo _ rfl
    · have hF := (if_pos c560).symm.trans hF
      refine g_aload_n X dL_law_2584 rfl rfl ?_
      refine g_iconst (v := (0 : Int32)) X dL_law_2585 (by decide) ?_
      obtain ⟨v561, ev561, hF⟩ := bnd hF
      refine g_lald X ev561 dL_law_2586 ?_
      refine g_iload X dL_law_2587 rfl ?_
      refine g_i2l X dL_law_2589 ?_
      refine g_lcmp X dL_law_2590 ?_
      refine g_if_eq X 2596 dL_law_2591 (by decide) (fun c562 => ?_) (fun c562 => ?_)
      · have hF := (if_pos c562).symm.trans hF
        refine g_goto X 3162 dL_law_2596 (by decide) ?_
        refine g_iinc (v := (x4_8 + (5 : Int32))) (L' := [some (va_rf a1), some (va_rf k1_8), some (va_rf k2_8), some (va_rf k3_8), some (.int (x4_8 + (5 : Int32))), some (.int v552), some (.int v556), none]) X dL_law_3162 (Nat.le_of_ble_eq_true rfl) rfl rfl (by first | rfl | simp [stL, rm1, clr2, cat_rf, cat_i, cat_j, cat_f, cat_d]) ?_
        refine g_goto X 23 dL_law_3165 (by decide) ?_
        refine G.drop [true, true, true, true, true, false, false, false] rfl ?_
        cases hF
        exact hgo _ rfl
      · have hF := (if_neg c562).symm.trans hF
        cases hF
  · have hF := (if_neg c559).symm.trans hF
    cases hF
def F_L_law_A2599 (a1 : Option Nat) (k1_8 : Option Nat) (k2_8 : Option Nat) (k3_8 : Option Nat) (x4_8 : Int32) (h_8 : HH) : Option ((Int32 × HH) ⊕ HH) :=
  Option.bind (aldI h_8 0 a1 (x4_8 + (1 : Int32))) fun v563 =>
  b2 (F_X0_fewestTicks k1_8 v563 k3_8 h_8) fun v565 h564 =>
  Option.bind (aldI h564 0 a1 (x4_8 + (1 : Int32))) fun v566 =>
  Option.bind (isO h564 1 k2_8) fun ob567 =>
  b2 (F_X4_fewestTicks ob567 v566 h564) fun v569 h568 =>
  Option.bind (isO h568 1 k2_8) fun ob570 =>
  Option.bind (F_X4_thrown ob570 h568) fun v571 =>
  if v571 = v565 then (
    if v565 = 0 then (
      Option.bind (aldJ h568 4 k3_8 (0 : Int32)) fun v574 =>
      if (lg_cmp v574 (v569.toInt64)) = 0 then (
        some (.inl ((x4_8 + (5 : Int32)), h568))
      ) else (
        none
      )
    ) else (
      some (.inl ((x4_8 + (5 : Int32)), h568))
    )
  ) else (
    none
  )
set_option maxHeartbeats 4000000 in
theorem w_L_law_A2599 {p : Program} {l : Launch} {e : Env} {R : Room} {s : State} {m : MethodId} {args : Array Value} {below : List Frame} {meth : Method} {c : Code} {Q : State → Prop} {D : va_G} {dA : Nat → ClassId} {h0 : HH} (hl : l.stackTraces = false) (X : FX p l s m args meth R c cL_law 8 "FerryClocksLaw" D dA h0 []) (hRf : R.frames = 8192) (hRl : R.locals = 100000) (a1 : Option Nat) (k1_8 : Option Nat) (k2_8 : Option Nat) (k3_8 : Option Nat) (x4_8 : Int32) (h_8 : HH) (o : (Int32 × HH) ⊕ HH) : F_L_law_A2599 a1 k1_8 k2_8 k3_8 x4_8 h_8 = some o → (∀ y, o = .inl y → (fun z => G p l e R s m args below meth c Q D dA h0 8 z.2 23 [some (va_rf a1), some (va_rf k1_8), some (va_rf k2_8), some (va_rf k3_8), some (.int z.1), none, none, none] []) y) → (∀ r, o = .inr r → (fun z => G p l e R s m args below meth c Q D dA h0 8 z 3168 [none, none, none, none, none, none, none, none] []) r) → G p l e R s m args below meth c Q D dA h0 8 h_8 2599 [some (va_rf a1), some (va_rf k1_8), some (va_rf k2_8), some (va_rf k3_8), some (.int x4_8), none, none, none] [] := by
  intro hF hgo hr
  unfold F_L_law_A2599 at hF
  refine g_aload_n X dL_law_2599 rfl rfl ?_
  refine g_aload_n X dL_law_2600 rfl rfl ?_
  refine g_iload X dL_law_2601 rfl ?_
  refine g_iconst (v := (1 : Int32)) X dL_law_2603 (by decide) ?_
  refine g_iadd X dL_law_2604 ?_
  obtain ⟨v563, ev563, hF⟩ := bnd hF
  refine g_iald X ev563 dL_law_2605 ?_
  refine g_aload_n X dL_law_2606 rfl rfl ?_
  obtain ⟨v565, h564, eh564, hF⟩ := b2_some hF
  refine g_callS X (w_X0_fewestTicks l hl D dA h_8 k1_8 v563 k3_8 v565 h564 eh564) q1501 q1502 q91 q1503 okn_X0_fewestTicks ⟨by rw [hRf]; exact Nat.le_of_ble_eq_true rfl, by rw [hRl]; exact Nat.le_of_ble_eq_true rfl⟩ (As := [va_rf k1_8, .int v563, va_rf k3_8]) (rest := []) rfl (by first | exact Nat.le_of_ble_eq_true rfl | simp [cat_rf, cat_i, cat_j, cat_f, cat_d]) dL_law_2607 (ac_v ?_)
  refine g_istore (L' := [some (va_rf a1), some (va_rf k1_8), some (va_rf k2_8), some (va_rf k3_8), some (.int x4_8), some (.int v565), none, none]) X dL_law_2610 (Nat.le_of_ble_eq_true rfl) (by first | rfl | simp [stL, rm1, clr2, cat_rf, cat_i, cat_j, cat_f, cat_d]) ?_
  refine g_aload_n X dL_law_2612 rfl rfl ?_
  refine g_aload_n X dL_law_2613 rfl rfl ?_
  refine g_iload X dL_law_2614 rfl ?_
  refine g_iconst (v := (1 : Int32)) X dL_law_2616 (by decide) ?_
  refine g_iadd X dL_law_2617 ?_
  obtain ⟨v566, ev566, hF⟩ := bnd hF
  refine g_iald X ev566 dL_law_2618 ?_
  obtain ⟨ob567, eob567, hF⟩ := bnd hF
  obtain ⟨v569, h568, eh568, hF⟩ := b2_some hF
  refine g_callV X eob567 rfl rfl (w_X4_fewestTicks l hl D dA h564 ob567 v566 v569 h568 eh568) q2280 q2281 q2282 q103 q2283 okn_X4_fewestTicks ⟨by rw [hRf]; exact Nat.le_of_ble_eq_true rfl, by rw [hRl]; exact Nat.le_of_ble_eq_true rfl⟩ (As := [.int v566]) (rest := []) rfl (by first | exact Nat.le_of_ble_eq_true rfl | simp [cat_rf, cat_i, cat_j, cat_f, cat_d]) dL_law_2619 (ac_v ?_)
  refine g_istore (L' := [some (va_rf a1), some (va_rf k1_8), some (va_rf k2_8), some (va_rf k3_8), some (.int x4_8), some (.int v565), some (.int v569), none]) X dL_law_2622 (Nat.le_of_ble_eq_true rfl) (by first | rfl | simp [stL, rm1, clr2, cat_rf, cat_i, cat_j, cat_f, cat_d]) ?_
  refine g_aload_n X dL_law_2624 rfl rfl ?_
  obtain ⟨ob570, eob570, hF⟩ := bnd hF
  obtain ⟨v571, ev571, hF⟩ := bnd hF
  refine g_callV X eob570 rfl rfl (w_X4_thrown l hl D dA h568 ob570  v571 ev571) q1851 q1852 q1853 q103 q1854 okn_X4_thrown ⟨by rw [hRf]; exact Nat.le_of_ble_eq_true rfl, by rw [hRl]; exact Nat.le_of_ble_eq_true rfl⟩ (As := []) (rest := []) rfl (by first | exact Nat.le_of_ble_eq_true rfl | simp [cat_rf, cat_i, cat_j, cat_f, cat_d]) dL_law_2625 (ac_v ?_)
  refine g_iload X dL_law_2628 rfl ?_
  refine g_icmp_eq X 2635 dL_law_2630 (by decide) (fun c572 => ?_) (fun c572 => ?_)
  · have hF := (if_pos c572).symm.trans hF
    refine g_iload X dL_law_2635 rfl ?_
    refine g_if_ne X 2652 dL_law_2637 (by decide) (fun c573 => ?_) (fun c573 => ?_)
    · have hF := (if_neg c573).symm.trans hF
      refine g_goto X 3162 dL_law_2652 (by decide) ?_
      refine g_iinc (v := (x4_8 + (5 : Int32))) (L' := [some (va_rf a1), some (va_rf k1_8), some (va_rf k2_8), some (va_rf k3_8), some (.int (x4_8 + (5 : Int32))), some (.int v565), some (.int v569), none]) X dL_law_3162 (Nat.le_of_ble_eq_true rfl) rfl rfl (by first | rfl | simp [stL, rm1, clr2, cat_rf, cat_i, cat_j, cat_f, cat_d]) ?_
      refine g_goto X 23 dL_law_3165 (by decide) ?_
      refine G.drop [true, true, true, true, true, false, false, false] rfl ?_
      cases hF
      exact hgo _ rfl
    · have hF := (if_pos c573).symm.trans hF
      refine g_aload_n X dL_law_2640 rfl rfl ?_
      refine g_iconst (v := (0 : Int32)) X dL_law_2641 (by decide) ?_
      obtain ⟨v574, ev574, hF⟩ := bnd hF
      refine g_lald X ev574 dL_law_2642 ?_
      refine g_iload X dL_law_2643 rfl ?_
      refine g_i2l X dL_law_2645 ?_
      refine g_lcmp X dL_law_2646 ?_
      refine g_if_eq X 2652 dL_law_2647 (by decide) (fun c575 => ?_) (fun c575 => ?_)
      · have hF := (if_pos c575).symm.trans hF
        refine g_goto X 3162 dL_law_2652 (by decide) ?_
        refine g_iinc (v := (x4_8 + (5 : Int32))) (L' := [some (va_rf a1), some (va_rf k1_8), some (va_rf k2_8), some (va_rf k3_8), some (.int (x4_8 + (5 : Int32))), some (.int v565), some (.int v569), none]) X dL_law_3162 (Nat.le_of_ble_eq_true rfl) rfl rfl (by first | rfl | simp [stL, rm1, clr2, cat_rf, cat_i, cat_j, cat_f, cat_d]) ?_
        refine g_goto X 23 dL_law_3165 (by decide) ?_
        refine G.drop [true, true, true, true, true, false, false, false] rfl ?_
        cases hF
        exact hgo _ rfl
      · have hF := (if_neg c575).symm.trans hF
        cases hF
  · have hF := (if_neg c572).symm.trans hF
    cases hF
def F_L_law_A2655 (a1 : Option Nat) (k1_8 : Option Nat) (k2_8 : Option Nat) (k3_8 : Option Nat) (x4_8 : Int32) (h_8 : HH) : Option ((Int32 × HH) ⊕ HH) :=
  Option.bind (isO h_8 0 k1_8) fun ob576 =>
  b2 (F_X1_stuckIn ob576 h_8) fun v578 h577 =>
  Option.bind (isO h577 1 k2_8) fun ob579 =>
  b2 (F_X4_stuckIn ob579 h577) fun v581 h580 =>
  if v578 = v581 then (
    some (.inl ((x4_8 + (5 : Int32)), h580))
  ) else (
    none
  )
set_option maxHeartbeats 4000000 in
theorem w_L_law_A2655 {p : Program} {l : Launch} {e : Env} {R : Room} {s : State} {m : MethodId} {args : Array Value} {below : List Frame} {meth : Method} {c : Code} {Q : State → Prop} {D : va_G} {dA : Nat → ClassId} {h0 : HH} (hl : l.stackTraces = false) (X : FX p l s m args meth R c cL_law 8 "FerryClocksLaw" D dA h0 []) (hRf : R.frames = 8192) (hRl : R.locals = 100000) (a1 : Option Nat) (k1_8 : Option Nat) (k2_8 : Option Nat) (k3_8 : Option Nat) (x4_8 : Int32) (h_8 : HH) (o : (Int32 × HH) ⊕ HH) : F_L_law_A2655 a1 k1_8 k2_8 k3_8 x4_8 h_8 = some o → (∀ y, o = .inl y → (fun z => G p l e R s m args below meth c Q D dA h0 8 z.2 23 [some (va_rf a1), some (va_rf k1_8), some (va_rf k2_8), some (va_rf k3_8), some (.int z.1), none, none, none] []) y) → (∀ r, o = .inr r → (fun z => G p l e R s m args below meth c Q D dA h0 8 z 3168 [none, none, none, none, none, none, none, none] []) r) → G p l e R s m args below meth c Q D dA h0 8 h_8 2655 [some (va_rf a1), some (va_rf k1_8), some (va_rf k2_8), some (va_rf k3_8), some (.int x4_8), none, none, none] [] := by
  intro hF hgo hr
  unfold F_L_law_A2655 at hF
  refine g_aload_n X dL_law_2655 rfl rfl ?_
  obtain ⟨ob576, eob576, hF⟩ := bnd hF
  obtain ⟨v578, h577, eh577, hF⟩ := b2_some hF
  refine g_callV X eob576 rfl rfl (w_X1_stuckIn l hl D dA h_8 ob576  v578 h577 eh577) q858 q859 q860 q92 q861 okn_X1_stuckIn ⟨by rw [hRf]; exact Nat.le_of_ble_eq_true rfl, by rw [hRl]; exact Nat.le_of_ble_eq_true rfl⟩ (As := []) (rest := []) rfl (by first | exact Nat.le_of_ble_eq_true rfl | simp [cat_rf, cat_i, cat_j, cat_f, cat_d]) dL_law_2656 (ac_v ?_)
  refine g_aload_n X dL_law_2659 rfl rfl ?_
  obtain ⟨ob579, eob579, hF⟩ := bnd hF
  obtain ⟨v581, h580, eh580, hF⟩ := b2_some hF
  refine g_callV X eob579 rfl rfl (w_X4_stuckIn l hl D dA h577 ob579  v581 h580 eh580) q2284 q2285 q2286 q103 q2287 okn_X4_stuckIn ⟨by rw [hRf]; exact Nat.le_of_ble_eq_true rfl, by rw [hRl]; exact Nat.le_of_ble_eq_true rfl⟩ (As := []) (rest := [.int v578]) rfl (by first | exact Nat.le_of_ble_eq_true rfl | simp [cat_rf, cat_i, cat_j, cat_f, cat_d]) dL_law_2660 (ac_v ?_)
  refine g_icmp_eq X 3162 dL_law_2663 (by decide) (fun c582 => ?_) (fun c582 => ?_)
  · have hF := (if_pos c582).symm.trans hF
    refine g_iinc (v := (x4_8 + (5 : Int32))) (L' := [some (va_rf a1), some (va_rf k1_8), some (va_rf k2_8), some (va_rf k3_8), some (.int (x4_8 + (5 : Int32))), none, none, none]) X dL_law_3162 (Nat.le_of_ble_eq_true rfl) rfl rfl (by first | rfl | simp [stL, rm1, clr2, cat_rf, cat_i, cat_j, cat_f, cat_d]) ?_
    refine g_goto X 23 dL_law_3165 (by decide) ?_
    cases hF
    exact hgo _ rfl
  · have hF := (if_neg c582).symm.trans hF
    cases hF
def F_L_law_A2668 (a1 : Option Nat) (k1_8 : Option Nat) (k2_8 : Option Nat) (k3_8 : Option Nat) (x4_8 : Int32) (h_8 : HH) : Option ((Int32 × HH) ⊕ HH) :=
  Option.bind (isO h_8 0 k1_8) fun ob583 =>
  b2 (F_X1_usableLines ob583 h_8) fun v585 h584 =>
  Option.bind (isO h584 1 k2_8) fun ob586 =>
  b2 (F_X4_usableLines ob586 h584) fun v588 h587 =>
  if v585 = v588 then (
    some (.inl ((x4_8 + (5 : Int32)), h587))
  ) else (
    none
  )
set_option maxHeartbeats 4000000 in
theorem w_L_law_A2668 {p : Program} {l : Launch} {e : Env} {R : Room} {s : State} {m : MethodId} {args : Array Value} {below : List Frame} {meth : Method} {c : Code} {Q : State → Prop} {D : va_G} {dA : Nat → ClassId} {h0 : HH} (hl : l.stackTraces = false) (X : FX p l s m args meth R c cL_law 8 "FerryClocksLaw" D dA h0 []) (hRf : R.frames = 8192) (hRl : R.locals = 100000) (a1 : Option Nat) (k1_8 : Option Nat) (k2_8 : Option Nat) (k3_8 : Option Nat) (x4_8 : Int32) (h_8 : HH) (o : (Int32 × HH) ⊕ HH) : F_L_law_A2668 a1 k1_8 k2_8 k3_8 x4_8 h_8 = some o → (∀ y, o = .inl y → (fun z => G p l e R s m args below meth c Q D dA h0 8 z.2 23 [some (va_rf a1), some (va_rf k1_8), some (va_rf k2_8), some (va_rf k3_8), some (.int z.1), none, none, none] []) y) → (∀ r, o = .inr r → (fun z => G p l e R s m args below meth c Q D dA h0 8 z 3168 [none, none, none, none, none, none, none, none] []) r) → G p l e R s m args below meth c Q D dA h0 8 h_8 2668 [some (va_rf a1), some (va_rf k1_8), some (va_rf k2_8), some (va_rf k3_8), some (.int x4_8), none, none, none] [] := by
  intro hF hgo hr
  unfold F_L_law_A2668 at hF
  refine g_aload_n X dL_law_2668 rfl rfl ?_
  obtain ⟨ob583, eob583, hF⟩ := bnd hF
  obtain ⟨v585, h584, eh584, hF⟩ := b2_some hF
  refine g_callV X eob583 rfl rfl (w_X1_usableLines l hl D dA h_8 ob583  v585 h584 eh584) q870 q871 q872 q92 q873 okn_X1_usableLines ⟨by rw [hRf]; exact Nat.le_of_ble_eq_true rfl, by rw [hRl]; exact Nat.le_of_ble_eq_true rfl⟩ (As := []) (rest := []) rfl (by first | exact Nat.le_of_ble_eq_true rfl | simp [cat_rf, cat_i, cat_j, cat_f, cat_d]) dL_law_2669 (ac_v ?_)
  refine g_aload_n X dL_law_2672 rfl rfl ?_
  obtain ⟨ob586, eob586, hF⟩ := bnd hF
  obtain ⟨v588, h587, eh587, hF⟩ := b2_some hF
  refine g_callV X eob586 rfl rfl (w_X4_usableLines l hl D dA h584 ob586  v588 h587 eh587) q2292 q2293 q2294 q103 q2295 okn_X4_usableLines ⟨by rw [hRf]; exact Nat.le_of_ble_eq_true rfl, by rw [hRl]; exact Nat.le_of_ble_eq_true rfl⟩ (As := []) (rest := [.int v585]) rfl (by first | exact Nat.le_of_ble_eq_true rfl | simp [cat_rf, cat_i, cat_j, cat_f, cat_d]) dL_law_2673 (ac_v ?_)
  refine g_icmp_eq X 3162 dL_law_2676 (by decide) (fun c589 => ?_) (fun c589 => ?_)
  · have hF := (if_pos c589).symm.trans hF
    refine g_iinc (v := (x4_8 + (5 : Int32))) (L' := [some (va_rf a1), some (va_rf k1_8), some (va_rf k2_8), some (va_rf k3_8), some (.int (x4_8 + (5 : Int32))), none, none, none]) X dL_law_3162 (Nat.le_of_ble_eq_true rfl) rfl rfl (by first | rfl | simp [stL, rm1, clr2, cat_rf, cat_i, cat_j, cat_f, cat_d]) ?_
    refine g_goto X 23 dL_law_3165 (by decide) ?_
    cases hF
    exact hgo _ rfl
  · have hF := (if_neg c589).symm.trans hF
    cases hF
def F_L_law_A2681 (a1 : Option Nat) (k1_8 : Option Nat) (k2_8 : Option Nat) (k3_8 : Option Nat) (x4_8 : Int32) (h_8 : HH) : Option ((Int32 × HH) ⊕ HH) :=
  Option.bind (isO h_8 0 k1_8) fun ob590 =>
  b2 (F_X1_share ob590 h_8) fun v592 h591 =>
  Option.bind (isO h591 1 k2_8) fun ob593 =>
  b2 (F_X4_share ob593 h591) fun v595 h594 =>
  if (Op.cmpValue (FP.fcmp v592 v595) .l) = 0 then (
    some (.inl ((x4_8 + (5 : Int32)), h594))
  ) else (
    if (Op.cmpValue (FP.fcmp v592 v592) .l) = 0 then (
      none
    ) else (
      if (Op.cmpValue (FP.fcmp v595 v595) .l) = 0 then (
        none
      ) else (
        some (.inl ((x4_8 + (5 : Int32)), h594))
      )
    )
  )
set_option maxHeartbeats 4000000 in
theorem w_L_law_A2681 {p : Program} {l : Launch} {e : Env} {R : Room} {s : State} {m : MethodId} {args : Array Value} {below : List Frame} {meth : Method} {c : Code} {Q : State → Prop} {D : va_G} {dA : Nat → ClassId} {h0 : HH} (hl : l.stackTraces = false) (X : FX p l s m args meth R c cL_law 8 "FerryClocksLaw" D dA h0 []) (hRf : R.frames = 8192) (hRl : R.locals = 100000) (a1 : Option Nat) (k1_8 : Option Nat) (k2_8 : Option Nat) (k3_8 : Option Nat) (x4_8 : Int32) (h_8 : HH) (o : (Int32 × HH) ⊕ HH) : F_L_law_A2681 a1 k1_8 k2_8 k3_8 x4_8 h_8 = some o → (∀ y, o = .inl y → (fun z => G p l e R s m args below meth c Q D dA h0 8 z.2 23 [some (va_rf a1), some (va_rf k1_8), some (va_rf k2_8), some (va_rf k3_8), some (.int z.1), none, none, none] []) y) → (∀ r, o = .inr r → (fun z => G p l e R s m args below meth c Q D dA h0 8 z 3168 [none, none, none, none, none, none, none, none] []) r) → G p l e R s m args below meth c Q D dA h0 8 h_8 2681 [some (va_rf a1), some (va_rf k1_8), some (va_rf k2_8), some (va_rf k3_8), some (.int x4_8), none, none, none] [] := by
  intro hF hgo hr
  unfold F_L_law_A2681 at hF
  refine g_aload_n X dL_law_2681 rfl rfl ?_
  obtain ⟨ob590, eob590, hF⟩ := bnd hF
  obtain ⟨v592, h591, eh591, hF⟩ := b2_some hF
  refine g_callV X eob590 rfl rfl (w_X1_share l hl D dA h_8 ob590  v592 h591 eh591) q878 q879 q880 q92 q881 okn_X1_share ⟨by rw [hRf]; exact Nat.le_of_ble_eq_true rfl, by rw [hRl]; exact Nat.le_of_ble_eq_true rfl⟩ (As := []) (rest := []) rfl (by first | exact Nat.le_of_ble_eq_true rfl | simp [cat_rf, cat_i, cat_j, cat_f, cat_d]) dL_law_2682 (ac_v ?_)
  refine g_fstore (L' := [some (va_rf a1), some (va_rf k1_8), some (va_rf k2_8), some (va_rf k3_8), some (.int x4_8), some (.float v592), none, none]) X dL_law_2685 (Nat.le_of_ble_eq_true rfl) (by first | rfl | simp [stL, rm1, clr2, cat_rf, cat_i, cat_j, cat_f, cat_d]) ?_
  refine g_aload_n X dL_law_2687 rfl rfl ?_
  obtain ⟨ob593, eob593, hF⟩ := bnd hF
  obtain ⟨v595, h594, eh594, hF⟩ := b2_some hF
  refine g_callV X eob593 rfl rfl (w_X4_share l hl D dA h591 ob593  v595 h594 eh594) q2296 q2297 q2298 q103 q2299 okn_X4_share ⟨by rw [hRf]; exact Nat.le_of_ble_eq_true rfl, by rw [hRl]; exact Nat.le_of_ble_eq_true rfl⟩ (As := []) (rest := []) rfl (by first | exact Nat.le_of_ble_eq_true rfl | simp [cat_rf, cat_i, cat_j, cat_f, cat_d]) dL_law_2688 (ac_v ?_)
  refine g_fstore (L' := [some (va_rf a1), some (va_rf k1_8), some (va_rf k2_8), some (va_rf k3_8), some (.int x4_8), some (.float v592), some (.float v595), none]) X dL_law_2691 (Nat.le_of_ble_eq_true rfl) (by first | rfl | simp [stL, rm1, clr2, cat_rf, cat_i, cat_j, cat_f, cat_d]) ?_
  refine g_fload X dL_law_2693 rfl ?_
  refine g_fload X dL_law_2695 rfl ?_
  refine g_fcmp X dL_law_2697 ?_
  refine g_if_eq X 2719 dL_law_2698 (by decide) (fun c596 => ?_) (fun c596 => ?_)
  · have hF := (if_pos c596).symm.trans hF
    refine g_goto X 3162 dL_law_2719 (by decide) ?_
    refine g_iinc (v := (x4_8 + (5 : Int32))) (L' := [some (va_rf a1), some (va_rf k1_8), some (va_rf k2_8), some (va_rf k3_8), some (.int (x4_8 + (5 : Int32))), some (.float v592), some (.float v595), none]) X dL_law_3162 (Nat.le_of_ble_eq_true rfl) rfl rfl (by first | rfl | simp [stL, rm1, clr2, cat_rf, cat_i, cat_j, cat_f, cat_d]) ?_
    refine g_goto X 23 dL_law_3165 (by decide) ?_
    refine G.drop [true, true, true, true, true, false, false, false] rfl ?_
    cases hF
    exact hgo _ rfl
  · have hF := (if_neg c596).symm.trans hF
    refine g_fload X dL_law_2701 rfl ?_
    refine g_fload X dL_law_2703 rfl ?_
    refine g_fcmp X dL_law_2705 ?_
    refine g_if_eq X 2717 dL_law_2706 (by decide) (fun c597 => ?_) (fun c597 => ?_)
    · have hF := (if_pos c597).symm.trans hF
      cases hF
    · have hF := (if_neg c597).symm.trans hF
      refine g_fload X dL_law_2709 rfl ?_
      refine g_fload X dL_law_2711 rfl ?_
      refine g_fcmp X dL_law_2713 ?_
      refine g_if_ne X 2719 dL_law_2714 (by decide) (fun c598 => ?_) (fun c598 => ?_)
      · have hF := (if_neg c598).symm.trans hF
        refine g_goto X 3162 dL_law_2719 (by decide) ?_
        refine g_iinc (v := (x4_8 + (5 : Int32))) (L' := [some (va_rf a1), some (va_rf k1_8), some (va_rf k2_8), some (va_rf k3_8), some (.int (x4_8 + (5 : Int32))), some (.float v592), some (.float v595), none]) X dL_law_3162 (Nat.le_of_ble_eq_true rfl) rfl rfl (by first | rfl | simp [stL, rm1, clr2, cat_rf, cat_i, cat_j, cat_f, cat_d]) ?_
        refine g_goto X 23 dL_law_3165 (by decide) ?_
        refine G.drop [true, true, true, true, true, false, false, false] rfl ?_
        cases hF
        exact hgo _ rfl
      · have hF := (if_pos c598).symm.trans hF
        cases hF
def F_L_law_A2722 (a1 : Option Nat) (k1_8 : Option Nat) (k2_8 : Option Nat) (k3_8 : Option Nat) (x4_8 : Int32) (h_8 : HH) : Option ((Int32 × HH) ⊕ HH) :=
  Option.bind (isO h_8 0 k1_8) fun ob599 =>
  b2 (F_X1_shareBits ob599 h_8) fun v601 h600 =>
  Option.bind (isO h600 1 k2_8) fun ob602 =>
  b2 (F_X4_shareBits ob602 h600) fun v604 h603 =>
  if v601 = v604 then (
    some (.inl ((x4_8 + (5 : Int32)), h603))
  ) else (
    none
  )
set_option maxHeartbeats 4000000 in
theorem w_L_law_A2722 {p : Program} {l : Launch} {e : Env} {R : Room} {s : State} {m : MethodId} {args : Array Value} {below : List Frame} {meth : Method} {c : Code} {Q : State → Prop} {D : va_G} {dA : Nat → ClassId} {h0 : HH} (hl : l.stackTraces = false) (X : FX p l s m args meth R c cL_law 8 "FerryClocksLaw" D dA h0 []) (hRf : R.frames = 8192) (hRl : R.locals = 100000) (a1 : Option Nat) (k1_8 : Option Nat) (k2_8 : Option Nat) (k3_8 : Option Nat) (x4_8 : Int32) (h_8 : HH) (o : (Int32 × HH) ⊕ HH) : F_L_law_A2722 a1 k1_8 k2_8 k3_8 x4_8 h_8 = some o → (∀ y, o = .inl y → (fun z => G p l e R s m args below meth c Q D dA h0 8 z.2 23 [some (va_rf a1), some (va_rf k1_8), some (va_rf k2_8), some (va_rf k3_8), some (.int z.1), none, none, none] []) y) → (∀ r, o = .inr r → (fun z => G p l e R s m args below meth c Q D dA h0 8 z 3168 [none, none, none, none, none, none, none, none] []) r) → G p l e R s m args below meth c Q D dA h0 8 h_8 2722 [some (va_rf a1), some (va_rf k1_8), some (va_rf k2_8), some (va_rf k3_8), some (.int x4_8), none, none, none] [] := by
  intro hF hgo hr
  unfold F_L_law_A2722 at hF
  refine g_aload_n X dL_law_2722 rfl rfl ?_
  obtain ⟨ob599, eob599, hF⟩ := bnd hF
  obtain ⟨v601, h600, eh600, hF⟩ := b2_some hF
  refine g_callV X eob599 rfl rfl (w_X1_shareBits l hl D dA h_8 ob599  v601 h600 eh600) q884 q885 q886 q92 q887 okn_X1_shareBits ⟨by rw [hRf]; exact Nat.le_of_ble_eq_true rfl, by rw [hRl]; exact Nat.le_of_ble_eq_true rfl⟩ (As := []) (rest := []) rfl (by first | exact Nat.le_of_ble_eq_true rfl | simp [cat_rf, cat_i, cat_j, cat_f, cat_d]) dL_law_2723 (ac_v ?_)
  refine g_aload_n X dL_law_2726 rfl rfl ?_
  obtain ⟨ob602, eob602, hF⟩ := bnd hF
  obtain ⟨v604, h603, eh603, hF⟩ := b2_some hF
  refine g_callV X eob602 rfl rfl (w_X4_shareBits l hl D dA h600 ob602  v604 h603 eh603) q2305 q2306 q2307 q103 q2308 okn_X4_shareBits ⟨by rw [hRf]; exact Nat.le_of_ble_eq_true rfl, by rw [hRl]; exact Nat.le_of_ble_eq_true rfl⟩ (As := []) (rest := [.int v601]) rfl (by first | exact Nat.le_of_ble_eq_true rfl | simp [cat_rf, cat_i, cat_j, cat_f, cat_d]) dL_law_2727 (ac_v ?_)
  refine g_icmp_eq X 3162 dL_law_2730 (by decide) (fun c605 => ?_) (fun c605 => ?_)
  · have hF := (if_pos c605).symm.trans hF
    refine g_iinc (v := (x4_8 + (5 : Int32))) (L' := [some (va_rf a1), some (va_rf k1_8), some (va_rf k2_8), some (va_rf k3_8), some (.int (x4_8 + (5 : Int32))), none, none, none]) X dL_law_3162 (Nat.le_of_ble_eq_true rfl) rfl rfl (by first | rfl | simp [stL, rm1, clr2, cat_rf, cat_i, cat_j, cat_f, cat_d]) ?_
    refine g_goto X 23 dL_law_3165 (by decide) ?_
    cases hF
    exact hgo _ rfl
  · have hF := (if_neg c605).symm.trans hF
    cases hF
def F_L_law_A2735 (a1 : Option Nat) (k1_8 : Option Nat) (k2_8 : Option Nat) (k3_8 : Option Nat) (x4_8 : Int32) (h_8 : HH) : Option ((Int32 × HH) ⊕ HH) :=
  Option.bind (aldI h_8 0 a1 (x4_8 + (1 : Int32))) fun v606 =>
  b2 (F_X0_meanBits k1_8 v606 k3_8 h_8) fun v608 h607 =>
  Option.bind (aldI h607 0 a1 (x4_8 + (1 : Int32))) fun v609 =>
  Option.bind (isO h607 1 k2_8) fun ob610 =>
  b2 (F_X4_meanBits ob610 v609 h607) fun v612 h611 =>
  Option.bind (isO h611 1 k2_8) fun ob613 =>
  Option.bind (F_X4_thrown ob613 h611) fun v614 =>
  if v614 = v608 then (
    if v608 = 0 then (
      Option.bind (aldJ h611 4 k3_8 (0 : Int32)) fun v617 =>
      if (lg_cmp v617 v612) = 0 then (
        some (.inl ((x4_8 + (5 : Int32)), h611))
      ) else (
        none
      )
    ) else (
      some (.inl ((x4_8 + (5 : Int32)), h611))
    )
  ) else (
    none
  )
set_option maxHeartbeats 4000000 in
theorem w_L_law_A2735 {p : Program} {l : Launch} {e : Env} {R : Room} {s : State} {m : MethodId} {args : Array Value} {below : List Frame} {meth : Method} {c : Code} {Q : State → Prop} {D : va_G} {dA : Nat → ClassId} {h0 : HH} (hl : l.stackTraces = false) (X : FX p l s m args meth R c cL_law 8 "FerryClocksLaw" D dA h0 []) (hRf : R.frames = 8192) (hRl : R.locals = 100000) (a1 : Option Nat) (k1_8 : Option Nat) (k2_8 : Option Nat) (k3_8 : Option Nat) (x4_8 : Int32) (h_8 : HH) (o : (Int32 × HH) ⊕ HH) : F_L_law_A2735 a1 k1_8 k2_8 k3_8 x4_8 h_8 = some o → (∀ y, o = .inl y → (fun z => G p l e R s m args below meth c Q D dA h0 8 z.2 23 [some (va_rf a1), some (va_rf k1_8), some (va_rf k2_8), some (va_rf k3_8), some (.int z.1), none, none, none] []) y) → (∀ r, o = .inr r → (fun z => G p l e R s m args below meth c Q D dA h0 8 z 3168 [none, none, none, none, none, none, none, none] []) r) → G p l e R s m args below meth c Q D dA h0 8 h_8 2735 [some (va_rf a1), some (va_rf k1_8), some (va_rf k2_8), some (va_rf k3_8), some (.int x4_8), none, none, none] [] := by
  intro hF hgo hr
  unfold F_L_law_A2735 at hF
  refine g_aload_n X dL_law_2735 rfl rfl ?_
  refine g_aload_n X dL_law_2736 rfl rfl ?_
  refine g_iload X dL_law_2737 rfl ?_
  refine g_iconst (v := (1 : Int32)) X dL_law_2739 (by decide) ?_
  refine g_iadd X dL_law_2740 ?_
  obtain ⟨v606, ev606, hF⟩ := bnd hF
  refine g_iald X ev606 dL_law_2741 ?_
  refine g_aload_n X dL_law_2742 rfl rfl ?_
  obtain ⟨v608, h607, eh607, hF⟩ := b2_some hF
  refine g_callS X (w_X0_meanBits l hl D dA h_8 k1_8 v606 k3_8 v608 h607 eh607) q1512 q1513 q91 q1514 okn_X0_meanBits ⟨by rw [hRf]; exact Nat.le_of_ble_eq_true rfl, by rw [hRl]; exact Nat.le_of_ble_eq_true rfl⟩ (As := [va_rf k1_8, .int v606, va_rf k3_8]) (rest := []) rfl (by first | exact Nat.le_of_ble_eq_true rfl | simp [cat_rf, cat_i, cat_j, cat_f, cat_d]) dL_law_2743 (ac_v ?_)
  refine g_istore (L' := [some (va_rf a1), some (va_rf k1_8), some (va_rf k2_8), some (va_rf k3_8), some (.int x4_8), some (.int v608), none, none]) X dL_law_2746 (Nat.le_of_ble_eq_true rfl) (by first | rfl | simp [stL, rm1, clr2, cat_rf, cat_i, cat_j, cat_f, cat_d]) ?_
  refine g_aload_n X dL_law_2748 rfl rfl ?_
  refine g_aload_n X dL_law_2749 rfl rfl ?_
  refine g_iload X dL_law_2750 rfl ?_
  refine g_iconst (v := (1 : Int32)) X dL_law_2752 (by decide) ?_
  refine g_iadd X dL_law_2753 ?_
  obtain ⟨v609, ev609, hF⟩ := bnd hF
  refine g_iald X ev609 dL_law_2754 ?_
  obtain ⟨ob610, eob610, hF⟩ := bnd hF
  obtain ⟨v612, h611, eh611, hF⟩ := b2_some hF
  refine g_callV X eob610 rfl rfl (w_X4_meanBits l hl D dA h607 ob610 v609 v612 h611 eh611) q2310 q2311 q2312 q103 q2313 okn_X4_meanBits ⟨by rw [hRf]; exact Nat.le_of_ble_eq_true rfl, by rw [hRl]; exact Nat.le_of_ble_eq_true rfl⟩ (As := [.int v609]) (rest := []) rfl (by first | exact Nat.le_of_ble_eq_true rfl | simp [cat_rf, cat_i, cat_j, cat_f, cat_d]) dL_law_2755 (ac_v ?_)
  refine g_lstore (L' := [some (va_rf a1), some (va_rf k1_8), some (va_rf k2_8), some (va_rf k3_8), some (.int x4_8), some (.int v608), some (.long v612), none]) X dL_law_2758 (Nat.le_of_ble_eq_true rfl) (by first | rfl | simp [stL, rm1, clr2, cat_rf, cat_i, cat_j, cat_f, cat_d]) ?_
  refine g_aload_n X dL_law_2760 rfl rfl ?_
  obtain ⟨ob613, eob613, hF⟩ := bnd hF
  obtain ⟨v614, ev614, hF⟩ := bnd hF
  refine g_callV X eob613 rfl rfl (w_X4_thrown l hl D dA h611 ob613  v614 ev614) q1851 q1852 q1853 q103 q1854 okn_X4_thrown ⟨by rw [hRf]; exact Nat.le_of_ble_eq_true rfl, by rw [hRl]; exact Nat.le_of_ble_eq_true rfl⟩ (As := []) (rest := []) rfl (by first | exact Nat.le_of_ble_eq_true rfl | simp [cat_rf, cat_i, cat_j, cat_f, cat_d]) dL_law_2761 (ac_v ?_)
  refine g_iload X dL_law_2764 rfl ?_
  refine g_icmp_eq X 2771 dL_law_2766 (by decide) (fun c615 => ?_) (fun c615 => ?_)
  · have hF := (if_pos c615).symm.trans hF
    refine g_iload X dL_law_2771 rfl ?_
    refine g_if_ne X 2787 dL_law_2773 (by decide) (fun c616 => ?_) (fun c616 => ?_)
    · have hF := (if_neg c616).symm.trans hF
      refine g_goto X 3162 dL_law_2787 (by decide) ?_
      refine g_iinc (v := (x4_8 + (5 : Int32))) (L' := [some (va_rf a1), some (va_rf k1_8), some (va_rf k2_8), some (va_rf k3_8), some (.int (x4_8 + (5 : Int32))), some (.int v608), some (.long v612), none]) X dL_law_3162 (Nat.le_of_ble_eq_true rfl) rfl rfl (by first | rfl | simp [stL, rm1, clr2, cat_rf, cat_i, cat_j, cat_f, cat_d]) ?_
      refine g_goto X 23 dL_law_3165 (by decide) ?_
      refine G.drop [true, true, true, true, true, false, false, false] rfl ?_
      cases hF
      exact hgo _ rfl
    · have hF := (if_pos c616).symm.trans hF
      refine g_aload_n X dL_law_2776 rfl rfl ?_
      refine g_iconst (v := (0 : Int32)) X dL_law_2777 (by decide) ?_
      obtain ⟨v617, ev617, hF⟩ := bnd hF
      refine g_lald X ev617 dL_law_2778 ?_
      refine g_lload X dL_law_2779 rfl ?_
      refine g_lcmp X dL_law_2781 ?_
      refine g_if_eq X 2787 dL_law_2782 (by decide) (fun c618 => ?_) (fun c618 => ?_)
      · have hF := (if_pos c618).symm.trans hF
        refine g_goto X 3162 dL_law_2787 (by decide) ?_
        refine g_iinc (v := (x4_8 + (5 : Int32))) (L' := [some (va_rf a1), some (va_rf k1_8), some (va_rf k2_8), some (va_rf k3_8), some (.int (x4_8 + (5 : Int32))), some (.int v608), some (.long v612), none]) X dL_law_3162 (Nat.le_of_ble_eq_true rfl) rfl rfl (by first | rfl | simp [stL, rm1, clr2, cat_rf, cat_i, cat_j, cat_f, cat_d]) ?_
        refine g_goto X 23 dL_law_3165 (by decide) ?_
        refine G.drop [true, true, true, true, true, false, false, false] rfl ?_
        cases hF
        exact hgo _ rfl
      · have hF := (if_neg c618).symm.trans hF
        cases hF
  · have hF := (if_neg c615).symm.trans hF
    cases hF
def F_L_law_A2790 (a1 : Option Nat) (k1_8 : Option Nat) (k2_8 : Option Nat) (k3_8 : Option Nat) (x4_8 : Int32) (h_8 : HH) : Option ((Int32 × HH) ⊕ HH) :=
  Option.bind (isO h_8 0 k1_8) fun ob619 =>
  Option.bind (F_X1_worked ob619 h_8) fun v620 =>
  Option.bind (isO h_8 1 k2_8) fun ob621 =>
  b2 (F_X4_worked ob621 h_8) fun v623 h622 =>
  if v620 = v623 then (
    some (.inl ((x4_8 + (5 : Int32)), h622))
  ) else (
    none
  )
set_option maxHeartbeats 4000000 in
theorem w_L_law_A2790 {p : Program} {l : Launch} {e : Env} {R : Room} {s : State} {m : MethodId} {args : Array Value} {below : List Frame} {meth : Method} {c : Code} {Q : State → Prop} {D : va_G} {dA : Nat → ClassId} {h0 : HH} (hl : l.stackTraces = false) (X : FX p l s m args meth R c cL_law 8 "FerryClocksLaw" D dA h0 []) (hRf : R.frames = 8192) (hRl : R.locals = 100000) (a1 : Option Nat) (k1_8 : Option Nat) (k2_8 : Option Nat) (k3_8 : Option Nat) (x4_8 : Int32) (h_8 : HH) (o : (Int32 × HH) ⊕ HH) : F_L_law_A2790 a1 k1_8 k2_8 k3_8 x4_8 h_8 = some o → (∀ y, o = .inl y → (fun z => G p l e R s m args below meth c Q D dA h0 8 z.2 23 [some (va_rf a1), some (va_rf k1_8), some (va_rf k2_8), some (va_rf k3_8), some (.int z.1), none, none, none] []) y) → (∀ r, o = .inr r → (fun z => G p l e R s m args below meth c Q D dA h0 8 z 3168 [none, none, none, none, none, none, none, none] []) r) → G p l e R s m args below meth c Q D dA h0 8 h_8 2790 [some (va_rf a1), some (va_rf k1_8), some (va_rf k2_8), some (va_rf k3_8), some (.int x4_8), none, none, none] [] := by
  intro hF hgo hr
  unfold F_L_law_A2790 at hF
  refine g_aload_n X dL_law_2790 rfl rfl ?_
  obtain ⟨ob619, eob619, hF⟩ := bnd hF
  obtain ⟨v620, ev620, hF⟩ := bnd hF
  refine g_callV X eob619 rfl rfl (w_X1_worked l hl D dA h_8 ob619  v620 ev620) q899 q900 q901 q92 q902 okn_X1_worked ⟨by rw [hRf]; exact Nat.le_of_ble_eq_true rfl, by rw [hRl]; exact Nat.le_of_ble_eq_true rfl⟩ (As := []) (rest := []) rfl (by first | exact Nat.le_of_ble_eq_true rfl | simp [cat_rf, cat_i, cat_j, cat_f, cat_d]) dL_law_2791 (ac_v ?_)
  refine g_aload_n X dL_law_2794 rfl rfl ?_
  obtain ⟨ob621, eob621, hF⟩ := bnd hF
  obtain ⟨v623, h622, eh622, hF⟩ := b2_some hF
  refine g_callV X eob621 rfl rfl (w_X4_worked l hl D dA h_8 ob621  v623 h622 eh622) q2315 q2316 q2317 q103 q2318 okn_X4_worked ⟨by rw [hRf]; exact Nat.le_of_ble_eq_true rfl, by rw [hRl]; exact Nat.le_of_ble_eq_true rfl⟩ (As := []) (rest := [.int v620]) rfl (by first | exact Nat.le_of_ble_eq_true rfl | simp [cat_rf, cat_i, cat_j, cat_f, cat_d]) dL_law_2795 (ac_v ?_)
  refine g_icmp_eq X 3162 dL_law_2798 (by decide) (fun c624 => ?_) (fun c624 => ?_)
  · have hF := (if_pos c624).symm.trans hF
    refine g_iinc (v := (x4_8 + (5 : Int32))) (L' := [some (va_rf a1), some (va_rf k1_8), some (va_rf k2_8), some (va_rf k3_8), some (.int (x4_8 + (5 : Int32))), none, none, none]) X dL_law_3162 (Nat.le_of_ble_eq_true rfl) rfl rfl (by first | rfl | simp [stL, rm1, clr2, cat_rf, cat_i, cat_j, cat_f, cat_d]) ?_
    refine g_goto X 23 dL_law_3165 (by decide) ?_
    cases hF
    exact hgo _ rfl
  · have hF := (if_neg c624).symm.trans hF
    cases hF
def F_L_law_A2803 (a1 : Option Nat) (k1_8 : Option Nat) (k2_8 : Option Nat) (k3_8 : Option Nat) (x4_8 : Int32) (h_8 : HH) : Option ((Int32 × HH) ⊕ HH) :=
  Option.bind (isO h_8 0 k1_8) fun ob625 =>
  b2 (F_X1_keep ob625 h_8) fun v627 h626 =>
  Option.bind (isO h626 1 k2_8) fun ob628 =>
  b2 (F_X4_keep ob628 h626) fun v630 h629 =>
  if v627 = v630 then (
    some (.inl ((x4_8 + (5 : Int32)), h629))
  ) else (
    none
  )
set_option maxHeartbeats 4000000 in
theorem w_L_law_A2803 {p : Program} {l : Launch} {e : Env} {R : Room} {s : State} {m : MethodId} {args : Array Value} {below : List Frame} {meth : Method} {c : Code} {Q : State → Prop} {D : va_G} {dA : Nat → ClassId} {h0 : HH} (hl : l.stackTraces = false) (X : FX p l s m args meth R c cL_law 8 "FerryClocksLaw" D dA h0 []) (hRf : R.frames = 8192) (hRl : R.locals = 100000) (a1 : Option Nat) (k1_8 : Option Nat) (k2_8 : Option Nat) (k3_8 : Option Nat) (x4_8 : Int32) (h_8 : HH) (o : (Int32 × HH) ⊕ HH) : F_L_law_A2803 a1 k1_8 k2_8 k3_8 x4_8 h_8 = some o → (∀ y, o = .inl y → (fun z => G p l e R s m args below meth c Q D dA h0 8 z.2 23 [some (va_rf a1), some (va_rf k1_8), some (va_rf k2_8), some (va_rf k3_8), some (.int z.1), none, none, none] []) y) → (∀ r, o = .inr r → (fun z => G p l e R s m args below meth c Q D dA h0 8 z 3168 [none, none, none, none, none, none, none, none] []) r) → G p l e R s m args below meth c Q D dA h0 8 h_8 2803 [some (va_rf a1), some (va_rf k1_8), some (va_rf k2_8), some (va_rf k3_8), some (.int x4_8), none, none, none] [] := by
  intro hF hgo hr
  unfold F_L_law_A2803 at hF
  refine g_aload_n X dL_law_2803 rfl rfl ?_
  obtain ⟨ob625, eob625, hF⟩ := bnd hF
  obtain ⟨v627, h626, eh626, hF⟩ := b2_some hF
  refine g_callV X eob625 rfl rfl (w_X1_keep l hl D dA h_8 ob625  v627 h626 eh626) q903 q904 q905 q92 q906 okn_X1_keep ⟨by rw [hRf]; exact Nat.le_of_ble_eq_true rfl, by rw [hRl]; exact Nat.le_of_ble_eq_true rfl⟩ (As := []) (rest := []) rfl (by first | exact Nat.le_of_ble_eq_true rfl | simp [cat_rf, cat_i, cat_j, cat_f, cat_d]) dL_law_2804 (ac_v ?_)
  refine g_aload_n X dL_law_2807 rfl rfl ?_
  obtain ⟨ob628, eob628, hF⟩ := bnd hF
  obtain ⟨v630, h629, eh629, hF⟩ := b2_some hF
  refine g_callV X eob628 rfl rfl (w_X4_keep l hl D dA h626 ob628  v630 h629 eh629) q2319 q2320 q2321 q103 q2322 okn_X4_keep ⟨by rw [hRf]; exact Nat.le_of_ble_eq_true rfl, by rw [hRl]; exact Nat.le_of_ble_eq_true rfl⟩ (As := []) (rest := [.int v627]) rfl (by first | exact Nat.le_of_ble_eq_true rfl | simp [cat_rf, cat_i, cat_j, cat_f, cat_d]) dL_law_2808 (ac_v ?_)
  refine g_icmp_eq X 3162 dL_law_2811 (by decide) (fun c631 => ?_) (fun c631 => ?_)
  · have hF := (if_pos c631).symm.trans hF
    refine g_iinc (v := (x4_8 + (5 : Int32))) (L' := [some (va_rf a1), some (va_rf k1_8), some (va_rf k2_8), some (va_rf k3_8), some (.int (x4_8 + (5 : Int32))), none, none, none]) X dL_law_3162 (Nat.le_of_ble_eq_true rfl) rfl rfl (by first | rfl | simp [stL, rm1, clr2, cat_rf, cat_i, cat_j, cat_f, cat_d]) ?_
    refine g_goto X 23 dL_law_3165 (by decide) ?_
    cases hF
    exact hgo _ rfl
  · have hF := (if_neg c631).symm.trans hF
    cases hF
def F_L_law_A2816 (a1 : Option Nat) (k1_8 : Option Nat) (k2_8 : Option Nat) (k3_8 : Option Nat) (x4_8 : Int32) (h_8 : HH) : Option ((Int32 × HH) ⊕ HH) :=
  b2 (F_X0_goBack k1_8 k3_8 h_8) fun v633 h632 =>
  Option.bind (isO h632 1 k2_8) fun ob634 =>
  b2 (F_X4_goBack ob634 h632) fun v636 h635 =>
  Option.bind (isO h635 1 k2_8) fun ob637 =>
  Option.bind (F_X4_thrown ob637 h635) fun v638 =>
  if v638 = v633 then (
    if v633 = 0 then (
      Option.bind (aldJ h635 4 k3_8 (0 : Int32)) fun v641 =>
      if (lg_cmp v641 (v636.toInt64)) = 0 then (
        some (.inl ((x4_8 + (5 : Int32)), h635))
      ) else (
        none
      )
    ) else (
      some (.inl ((x4_8 + (5 : Int32)), h635))
    )
  ) else (
    none
  )
set_option maxHeartbeats 4000000 in
theorem w_L_law_A2816 {p : Program} {l : Launch} {e : Env} {R : Room} {s : State} {m : MethodId} {args : Array Value} {below : List Frame} {meth : Method} {c : Code} {Q : State → Prop} {D : va_G} {dA : Nat → ClassId} {h0 : HH} (hl : l.stackTraces = false) (X : FX p l s m args meth R c cL_law 8 "FerryClocksLaw" D dA h0 []) (hRf : R.frames = 8192) (hRl : R.locals = 100000) (a1 : Option Nat) (k1_8 : Option Nat) (k2_8 : Option Nat) (k3_8 : Option Nat) (x4_8 : Int32) (h_8 : HH) (o : (Int32 × HH) ⊕ HH) : F_L_law_A2816 a1 k1_8 k2_8 k3_8 x4_8 h_8 = some o → (∀ y, o = .inl y → (fun z => G p l e R s m args below meth c Q D dA h0 8 z.2 23 [some (va_rf a1), some (va_rf k1_8), some (va_rf k2_8), some (va_rf k3_8), some (.int z.1), none, none, none] []) y) → (∀ r, o = .inr r → (fun z => G p l e R s m args below meth c Q D dA h0 8 z 3168 [none, none, none, none, none, none, none, none] []) r) → G p l e R s m args below meth c Q D dA h0 8 h_8 2816 [some (va_rf a1), some (va_rf k1_8), some (va_rf k2_8), some (va_rf k3_8), some (.int x4_8), none, none, none] [] := by
  intro hF hgo hr
  unfold F_L_law_A2816 at hF
  refine g_aload_n X dL_law_2816 rfl rfl ?_
  refine g_aload_n X dL_law_2817 rfl rfl ?_
  obtain ⟨v633, h632, eh632, hF⟩ := b2_some hF
  refine g_callS X (w_X0_goBack l hl D dA h_8 k1_8 k3_8 v633 h632 eh632) q1533 q1534 q91 q1535 okn_X0_goBack ⟨by rw [hRf]; exact Nat.le_of_ble_eq_true rfl, by rw [hRl]; exact Nat.le_of_ble_eq_true rfl⟩ (As := [va_rf k1_8, va_rf k3_8]) (rest := []) rfl (by first | exact Nat.le_of_ble_eq_true rfl | simp [cat_rf, cat_i, cat_j, cat_f, cat_d]) dL_law_2818 (ac_v ?_)
  refine g_istore (L' := [some (va_rf a1), some (va_rf k1_8), some (va_rf k2_8), some (va_rf k3_8), some (.int x4_8), some (.int v633), none, none]) X dL_law_2821 (Nat.le_of_ble_eq_true rfl) (by first | rfl | simp [stL, rm1, clr2, cat_rf, cat_i, cat_j, cat_f, cat_d]) ?_
  refine g_aload_n X dL_law_2823 rfl rfl ?_
  obtain ⟨ob634, eob634, hF⟩ := bnd hF
  obtain ⟨v636, h635, eh635, hF⟩ := b2_some hF
  refine g_callV X eob634 rfl rfl (w_X4_goBack l hl D dA h632 ob634  v636 h635 eh635) q2323 q2324 q2325 q103 q2326 okn_X4_goBack ⟨by rw [hRf]; exact Nat.le_of_ble_eq_true rfl, by rw [hRl]; exact Nat.le_of_ble_eq_true rfl⟩ (As := []) (rest := []) rfl (by first | exact Nat.le_of_ble_eq_true rfl | simp [cat_rf, cat_i, cat_j, cat_f, cat_d]) dL_law_2824 (ac_v ?_)
  refine g_istore (L' := [some (va_rf a1), some (va_rf k1_8), some (va_rf k2_8), some (va_rf k3_8), some (.int x4_8), some (.int v633), some (.int v636), none]) X dL_law_2827 (Nat.le_of_ble_eq_true rfl) (by first | rfl | simp [stL, rm1, clr2, cat_rf, cat_i, cat_j, cat_f, cat_d]) ?_
  refine g_aload_n X dL_law_2829 rfl rfl ?_
  obtain ⟨ob637, eob637, hF⟩ := bnd hF
  obtain ⟨v638, ev638, hF⟩ := bnd hF
  refine g_callV X eob637 rfl rfl (w_X4_thrown l hl D dA h635 ob637  v638 ev638) q1851 q1852 q1853 q103 q1854 okn_X4_thrown ⟨by rw [hRf]; exact Nat.le_of_ble_eq_true rfl, by rw [hRl]; exact Nat.le_of_ble_eq_true rfl⟩ (As := []) (rest := []) rfl (by first | exact Nat.le_of_ble_eq_true rfl | simp [cat_rf, cat_i, cat_j, cat_f, cat_d]) dL_law_2830 (ac_v ?_)
  refine g_iload X dL_law_2833 rfl ?_
  refine g_icmp_eq X 2840 dL_law_2835 (by decide) (fun c639 => ?_) (fun c639 => ?_)
  · have hF := (if_pos c639).symm.trans hF
    refine g_iload X dL_law_2840 rfl ?_
    refine g_if_ne X 2857 dL_law_2842 (by decide) (fun c640 => ?_) (fun c640 => ?_)
    · have hF := (if_neg c640).symm.trans hF
      refine g_goto X 3162 dL_law_2857 (by decide) ?_
      refine g_iinc (v := (x4_8 + (5 : Int32))) (L' := [some (va_rf a1), some (va_rf k1_8), some (va_rf k2_8), some (va_rf k3_8), some (.int (x4_8 + (5 : Int32))), some (.int v633), some (.int v636), none]) X dL_law_3162 (Nat.le_of_ble_eq_true rfl) rfl rfl (by first | rfl | simp [stL, rm1, clr2, cat_rf, cat_i, cat_j, cat_f, cat_d]) ?_
      refine g_goto X 23 dL_law_3165 (by decide) ?_
      refine G.drop [true, true, true, true, true, false, false, false] rfl ?_
      cases hF
      exact hgo _ rfl
    · have hF := (if_pos c640).symm.trans hF
      refine g_aload_n X dL_law_2845 rfl rfl ?_
      refine g_iconst (v := (0 : Int32)) X dL_law_2846 (by decide) ?_
      obtain ⟨v641, ev641, hF⟩ := bnd hF
      refine g_lald X ev641 dL_law_2847 ?_
      refine g_iload X dL_law_2848 rfl ?_
      refine g_i2l X dL_law_2850 ?_
      refine g_lcmp X dL_law_2851 ?_
      refine g_if_eq X 2857 dL_law_2852 (by decide) (fun c642 => ?_) (fun c642 => ?_)
      · have hF := (if_pos c642).symm.trans hF
        refine g_goto X 3162 dL_law_2857 (by decide) ?_
        refine g_iinc (v := (x4_8 + (5 : Int32))) (L' := [some (va_rf a1), some (va_rf k1_8), some (va_rf k2_8), some (va_rf k3_8), some (.int (x4_8 + (5 : Int32))), some (.int v633), some (.int v636), none]) X dL_law_3162 (Nat.le_of_ble_eq_true rfl) rfl rfl (by first | rfl | simp [stL, rm1, clr2, cat_rf, cat_i, cat_j, cat_f, cat_d]) ?_
        refine g_goto X 23 dL_law_3165 (by decide) ?_
        refine G.drop [true, true, true, true, true, false, false, false] rfl ?_
        cases hF
        exact hgo _ rfl
      · have hF := (if_neg c642).symm.trans hF
        cases hF
  · have hF := (if_neg c639).symm.trans hF
    cases hF
def F_L_law_A2860 (a1 : Option Nat) (k1_8 : Option Nat) (k2_8 : Option Nat) (k3_8 : Option Nat) (x4_8 : Int32) (h_8 : HH) : Option ((Int32 × HH) ⊕ HH) :=
  Option.bind (isO h_8 0 k1_8) fun ob643 =>
  Option.bind (F_X1_states ob643 h_8) fun v644 =>
  Option.bind (isO h_8 1 k2_8) fun ob645 =>
  b2 (F_X4_states ob645 h_8) fun v647 h646 =>
  if v644 = v647 then (
    some (.inl ((x4_8 + (5 : Int32)), h646))
  ) else (
    none
  )
set_option maxHeartbeats 4000000 in
theorem w_L_law_A2860 {p : Program} {l : Launch} {e : Env} {R : Room} {s : State} {m : MethodId} {args : Array Value} {below : List Frame} {meth : Method} {c : Code} {Q : State → Prop} {D : va_G} {dA : Nat → ClassId} {h0 : HH} (hl : l.stackTraces = false) (X : FX p l s m args meth R c cL_law 8 "FerryClocksLaw" D dA h0 []) (hRf : R.frames = 8192) (hRl : R.locals = 100000) (a1 : Option Nat) (k1_8 : Option Nat) (k2_8 : Option Nat) (k3_8 : Option Nat) (x4_8 : Int32) (h_8 : HH) (o : (Int32 × HH) ⊕ HH) : F_L_law_A2860 a1 k1_8 k2_8 k3_8 x4_8 h_8 = some o → (∀ y, o = .inl y → (fun z => G p l e R s m args below meth c Q D dA h0 8 z.2 23 [some (va_rf a1), some (va_rf k1_8), some (va_rf k2_8), some (va_rf k3_8), some (.int z.1), none, none, none] []) y) → (∀ r, o = .inr r → (fun z => G p l e R s m args below meth c Q D dA h0 8 z 3168 [none, none, none, none, none, none, none, none] []) r) → G p l e R s m args below meth c Q D dA h0 8 h_8 2860 [some (va_rf a1), some (va_rf k1_8), some (va_rf k2_8), some (va_rf k3_8), some (.int x4_8), none, none, none] [] := by
  intro hF hgo hr
  unfold F_L_law_A2860 at hF
  refine g_aload_n X dL_law_2860 rfl rfl ?_
  obtain ⟨ob643, eob643, hF⟩ := bnd hF
  obtain ⟨v644, ev644, hF⟩ := bnd hF
  refine g_callV X eob643 rfl rfl (w_X1_states l hl D dA h_8 ob643  v644 ev644) q907 q908 q909 q92 q910 okn_X1_states ⟨by rw [hRf]; exact Nat.le_of_ble_eq_true rfl, by rw [hRl]; exact Nat.le_of_ble_eq_true rfl⟩ (As := []) (rest := []) rfl (by first | exact Nat.le_of_ble_eq_true rfl | simp [cat_rf, cat_i, cat_j, cat_f, cat_d]) dL_law_2861 (ac_v ?_)
  refine g_aload_n X dL_law_2864 rfl rfl ?_
  obtain ⟨ob645, eob645, hF⟩ := bnd hF
  obtain ⟨v647, h646, eh646, hF⟩ := b2_some hF
  refine g_callV X eob645 rfl rfl (w_X4_states l hl D dA h_8 ob645  v647 h646 eh646) q2331 q2332 q2333 q103 q2334 okn_X4_states ⟨by rw [hRf]; exact Nat.le_of_ble_eq_true rfl, by rw [hRl]; exact Nat.le_of_ble_eq_true rfl⟩ (As := []) (rest := [.int v644]) rfl (by first | exact Nat.le_of_ble_eq_true rfl | simp [cat_rf, cat_i, cat_j, cat_f, cat_d]) dL_law_2865 (ac_v ?_)
  refine g_icmp_eq X 3162 dL_law_2868 (by decide) (fun c648 => ?_) (fun c648 => ?_)
  · have hF := (if_pos c648).symm.trans hF
    refine g_iinc (v := (x4_8 + (5 : Int32))) (L' := [some (va_rf a1), some (va_rf k1_8), some (va_rf k2_8), some (va_rf k3_8), some (.int (x4_8 + (5 : Int32))), none, none, none]) X dL_law_3162 (Nat.le_of_ble_eq_true rfl) rfl rfl (by first | rfl | simp [stL, rm1, clr2, cat_rf, cat_i, cat_j, cat_f, cat_d]) ?_
    refine g_goto X 23 dL_law_3165 (by decide) ?_
    cases hF
    exact hgo _ rfl
  · have hF := (if_neg c648).symm.trans hF
    cases hF
def F_L_law_A2873 (a1 : Option Nat) (k1_8 : Option Nat) (k2_8 : Option Nat) (k3_8 : Option Nat) (x4_8 : Int32) (h_8 : HH) : Option ((Int32 × HH) ⊕ HH) :=
  b2 (F_X0_undo k1_8 k3_8 h_8) fun v650 h649 =>
  Option.bind (isO h649 1 k2_8) fun ob651 =>
  b2 (F_X4_undo ob651 h649) fun v653 h652 =>
  Option.bind (isO h652 1 k2_8) fun ob654 =>
  Option.bind (F_X4_thrown ob654 h652) fun v655 =>
  if v655 = v650 then (
    if v650 = 0 then (
      Option.bind (aldJ h652 4 k3_8 (0 : Int32)) fun v658 =>
      if (lg_cmp v658 (v653.toInt64)) = 0 then (
        some (.inl ((x4_8 + (5 : Int32)), h652))
      ) else (
        none
      )
    ) else (
      some (.inl ((x4_8 + (5 : Int32)), h652))
    )
  ) else (
    none
  )
set_option maxHeartbeats 4000000 in
theorem w_L_law_A2873 {p : Program} {l : Launch} {e : Env} {R : Room} {s : State} {m : MethodId} {args : Array Value} {below : List Frame} {meth : Method} {c : Code} {Q : State → Prop} {D : va_G} {dA : Nat → ClassId} {h0 : HH} (hl : l.stackTraces = false) (X : FX p l s m args meth R c cL_law 8 "FerryClocksLaw" D dA h0 []) (hRf : R.frames = 8192) (hRl : R.locals = 100000) (a1 : Option Nat) (k1_8 : Option Nat) (k2_8 : Option Nat) (k3_8 : Option Nat) (x4_8 : Int32) (h_8 : HH) (o : (Int32 × HH) ⊕ HH) : F_L_law_A2873 a1 k1_8 k2_8 k3_8 x4_8 h_8 = some o → (∀ y, o = .inl y → (fun z => G p l e R s m args below meth c Q D dA h0 8 z.2 23 [some (va_rf a1), some (va_rf k1_8), some (va_rf k2_8), some (va_rf k3_8), some (.int z.1), none, none, none] []) y) → (∀ r, o = .inr r → (fun z => G p l e R s m args below meth c Q D dA h0 8 z 3168 [none, none, none, none, none, none, none, none] []) r) → G p l e R s m args below meth c Q D dA h0 8 h_8 2873 [some (va_rf a1), some (va_rf k1_8), some (va_rf k2_8), some (va_rf k3_8), some (.int x4_8), none, none, none] [] := by
  intro hF hgo hr
  unfold F_L_law_A2873 at hF
  refine g_aload_n X dL_law_2873 rfl rfl ?_
  refine g_aload_n X dL_law_2874 rfl rfl ?_
  obtain ⟨v650, h649, eh649, hF⟩ := b2_some hF
  refine g_callS X (w_X0_undo l hl D dA h_8 k1_8 k3_8 v650 h649 eh649) q1543 q1544 q91 q1545 okn_X0_undo ⟨by rw [hRf]; exact Nat.le_of_ble_eq_true rfl, by rw [hRl]; exact Nat.le_of_ble_eq_true rfl⟩ (As := [va_rf k1_8, va_rf k3_8]) (rest := []) rfl (by first | exact Nat.le_of_ble_eq_true rfl | simp [cat_rf, cat_i, cat_j, cat_f, cat_d]) dL_law_2875 (ac_v ?_)
  refine g_istore (L' := [some (va_rf a1), some (va_rf k1_8), some (va_rf k2_8), some (va_rf k3_8), some (.int x4_8), some (.int v650), none, none]) X dL_law_2878 (Nat.le_of_ble_eq_true rfl) (by first | rfl | simp [stL, rm1, clr2, cat_rf, cat_i, cat_j, cat_f, cat_d]) ?_
  refine g_aload_n X dL_law_2880 rfl rfl ?_
  obtain ⟨ob651, eob651, hF⟩ := bnd hF
  obtain ⟨v653, h652, eh652, hF⟩ := b2_some hF
  refine g_callV X eob651 rfl rfl (w_X4_undo l hl D dA h649 ob651  v653 h652 eh652) q2327 q2328 q2329 q103 q2330 okn_X4_undo ⟨by rw [hRf]; exact Nat.le_of_ble_eq_true rfl, by rw [hRl]; exact Nat.le_of_ble_eq_true rfl⟩ (As := []) (rest := []) rfl (by first | exact Nat.le_of_ble_eq_true rfl | simp [cat_rf, cat_i, cat_j, cat_f, cat_d]) dL_law_2881 (ac_v ?_)
  refine g_istore (L' := [some (va_rf a1), some (va_rf k1_8), some (va_rf k2_8), some (va_rf k3_8), some (.int x4_8), some (.int v650), some (.int v653), none]) X dL_law_2884 (Nat.le_of_ble_eq_true rfl) (by first | rfl | simp [stL, rm1, clr2, cat_rf, cat_i, cat_j, cat_f, cat_d]) ?_
  refine g_aload_n X dL_law_2886 rfl rfl ?_
  obtain ⟨ob654, eob654, hF⟩ := bnd hF
  obtain ⟨v655, ev655, hF⟩ := bnd hF
  refine g_callV X eob654 rfl rfl (w_X4_thrown l hl D dA h652 ob654  v655 ev655) q1851 q1852 q1853 q103 q1854 okn_X4_thrown ⟨by rw [hRf]; exact Nat.le_of_ble_eq_true rfl, by rw [hRl]; exact Nat.le_of_ble_eq_true rfl⟩ (As := []) (rest := []) rfl (by first | exact Nat.le_of_ble_eq_true rfl | simp [cat_rf, cat_i, cat_j, cat_f, cat_d]) dL_law_2887 (ac_v ?_)
  refine g_iload X dL_law_2890 rfl ?_
  refine g_icmp_eq X 2897 dL_law_2892 (by decide) (fun c656 => ?_) (fun c656 => ?_)
  · have hF := (if_pos c656).symm.trans hF
    refine g_iload X dL_law_2897 rfl ?_
    refine g_if_ne X 2914 dL_law_2899 (by decide) (fun c657 => ?_) (fun c657 => ?_)
    · have hF := (if_neg c657).symm.trans hF
      refine g_goto X 3162 dL_law_2914 (by decide) ?_
      refine g_iinc (v := (x4_8 + (5 : Int32))) (L' := [some (va_rf a1), some (va_rf k1_8), some (va_rf k2_8), some (va_rf k3_8), some (.int (x4_8 + (5 : Int32))), some (.int v650), some (.int v653), none]) X dL_law_3162 (Nat.le_of_ble_eq_true rfl) rfl rfl (by first | rfl | simp [stL, rm1, clr2, cat_rf, cat_i, cat_j, cat_f, cat_d]) ?_
      refine g_goto X 23 dL_law_3165 (by decide) ?_
      refine G.drop [true, true, true, true, true, false, false, false] rfl ?_
      cases hF
      exact hgo _ rfl
    · have hF := (if_pos c657).symm.trans hF
      refine g_aload_n X dL_law_2902 rfl rfl ?_
      refine g_iconst (v := (0 : Int32)) X dL_law_2903 (by decide) ?_
      obtain ⟨v658, ev658, hF⟩ := bnd hF
      refine g_lald X ev658 dL_law_2904 ?_
      refine g_iload X dL_law_2905 rfl ?_
      refine g_i2l X dL_law_2907 ?_
      refine g_lcmp X dL_law_2908 ?_
      refine g_if_eq X 2914 dL_law_2909 (by decide) (fun c659 => ?_) (fun c659 => ?_)
      · have hF := (if_pos c659).symm.trans hF
        refine g_goto X 3162 dL_law_2914 (by decide) ?_
        refine g_iinc (v := (x4_8 + (5 : Int32))) (L' := [some (va_rf a1), some (va_rf k1_8), some (va_rf k2_8), some (va_rf k3_8), some (.int (x4_8 + (5 : Int32))), some (.int v650), some (.int v653), none]) X dL_law_3162 (Nat.le_of_ble_eq_true rfl) rfl rfl (by first | rfl | simp [stL, rm1, clr2, cat_rf, cat_i, cat_j, cat_f, cat_d]) ?_
        refine g_goto X 23 dL_law_3165 (by decide) ?_
        refine G.drop [true, true, true, true, true, false, false, false] rfl ?_
        cases hF
        exact hgo _ rfl
      · have hF := (if_neg c659).symm.trans hF
        cases hF
  · have hF := (if_neg c656).symm.trans hF
    cases hF
def F_L_law_A2917 (a1 : Option Nat) (k1_8 : Option Nat) (k2_8 : Option Nat) (k3_8 : Option Nat) (x4_8 : Int32) (h_8 : HH) : Option ((Int32 × HH) ⊕ HH) :=
  Option.bind (aldI h_8 0 a1 (x4_8 + (1 : Int32))) fun v660 =>
  b2 (F_X0_type k1_8 v660 k3_8 h_8) fun v662 h661 =>
  Option.bind (aldI h661 0 a1 (x4_8 + (1 : Int32))) fun v663 =>
  Option.bind (isO h661 1 k2_8) fun ob664 =>
  b2 (F_X4_type ob664 v663 h661) fun v666 h665 =>
  Option.bind (isO h665 1 k2_8) fun ob667 =>
  Option.bind (F_X4_thrown ob667 h665) fun v668 =>
  if v668 = v662 then (
    if v662 = 0 then (
      Option.bind (aldJ h665 4 k3_8 (0 : Int32)) fun v671 =>
      if (lg_cmp v671 (v666.toInt64)) = 0 then (
        some (.inl ((x4_8 + (5 : Int32)), h665))
      ) else (
        none
      )
    ) else (
      some (.inl ((x4_8 + (5 : Int32)), h665))
    )
  ) else (
    none
  )
set_option maxHeartbeats 4000000 in
theorem w_L_law_A2917 {p : Program} {l : Launch} {e : Env} {R : Room} {s : State} {m : MethodId} {args : Array Value} {below : List Frame} {meth : Method} {c : Code} {Q : State → Prop} {D : va_G} {dA : Nat → ClassId} {h0 : HH} (hl : l.stackTraces = false) (X : FX p l s m args meth R c cL_law 8 "FerryClocksLaw" D dA h0 []) (hRf : R.frames = 8192) (hRl : R.locals = 100000) (a1 : Option Nat) (k1_8 : Option Nat) (k2_8 : Option Nat) (k3_8 : Option Nat) (x4_8 : Int32) (h_8 : HH) (o : (Int32 × HH) ⊕ HH) : F_L_law_A2917 a1 k1_8 k2_8 k3_8 x4_8 h_8 = some o → (∀ y, o = .inl y → (fun z => G p l e R s m args below meth c Q D dA h0 8 z.2 23 [some (va_rf a1), some (va_rf k1_8), some (va_rf k2_8), some (va_rf k3_8), some (.int z.1), none, none, none] []) y) → (∀ r, o = .inr r → (fun z => G p l e R s m args below meth c Q D dA h0 8 z 3168 [none, none, none, none, none, none, none, none] []) r) → G p l e R s m args below meth c Q D dA h0 8 h_8 2917 [some (va_rf a1), some (va_rf k1_8), some (va_rf k2_8), some (va_rf k3_8), some (.int x4_8), none, none, none] [] := by
  intro hF hgo hr
  unfold F_L_law_A2917 at hF
  refine g_aload_n X dL_law_2917 rfl rfl ?_
  refine g_aload_n X dL_law_2918 rfl rfl ?_
  refine g_iload X dL_law_2919 rfl ?_
  refine g_iconst (v := (1 : Int32)) X dL_law_2921 (by decide) ?_
  refine g_iadd X dL_law_2922 ?_
  obtain ⟨v660, ev660, hF⟩ := bnd hF
  refine g_iald X ev660 dL_law_2923 ?_
  refine g_aload_n X dL_law_2924 rfl rfl ?_
  obtain ⟨v662, h661, eh661, hF⟩ := b2_some hF
  refine g_callS X (w_X0_type l hl D dA h_8 k1_8 v660 k3_8 v662 h661 eh661) q1565 q1566 q91 q1567 okn_X0_type ⟨by rw [hRf]; exact Nat.le_of_ble_eq_true rfl, by rw [hRl]; exact Nat.le_of_ble_eq_true rfl⟩ (As := [va_rf k1_8, .int v660, va_rf k3_8]) (rest := []) rfl (by first | exact Nat.le_of_ble_eq_true rfl | simp [cat_rf, cat_i, cat_j, cat_f, cat_d]) dL_law_2925 (ac_v ?_)
  refine g_istore (L' := [some (va_rf a1), some (va_rf k1_8), some (va_rf k2_8), some (va_rf k3_8), some (.int x4_8), some (.int v662), none, none]) X dL_law_2928 (Nat.le_of_ble_eq_true rfl) (by first | rfl | simp [stL, rm1, clr2, cat_rf, cat_i, cat_j, cat_f, cat_d]) ?_
  refine g_aload_n X dL_law_2930 rfl rfl ?_
  refine g_aload_n X dL_law_2931 rfl rfl ?_
  refine g_iload X dL_law_2932 rfl ?_
  refine g_iconst (v := (1 : Int32)) X dL_law_2934 (by decide) ?_
  refine g_iadd X dL_law_2935 ?_
  obtain ⟨v663, ev663, hF⟩ := bnd hF
  refine g_iald X ev663 dL_law_2936 ?_
  obtain ⟨ob664, eob664, hF⟩ := bnd hF
  obtain ⟨v666, h665, eh665, hF⟩ := b2_some hF
  refine g_callV X eob664 rfl rfl (w_X4_type l hl D dA h661 ob664 v663 v666 h665 eh665) q2335 q2336 q2337 q103 q2338 okn_X4_type ⟨by rw [hRf]; exact Nat.le_of_ble_eq_true rfl, by rw [hRl]; exact Nat.le_of_ble_eq_true rfl⟩ (As := [.int v663]) (rest := []) rfl (by first | exact Nat.le_of_ble_eq_true rfl | simp [cat_rf, cat_i, cat_j, cat_f, cat_d]) dL_law_2937 (ac_v ?_)
  refine g_istore (L' := [some (va_rf a1), some (va_rf k1_8), some (va_rf k2_8), some (va_rf k3_8), some (.int x4_8), some (.int v662), some (.int v666), none]) X dL_law_2940 (Nat.le_of_ble_eq_true rfl) (by first | rfl | simp [stL, rm1, clr2, cat_rf, cat_i, cat_j, cat_f, cat_d]) ?_
  refine g_aload_n X dL_law_2942 rfl rfl ?_
  obtain ⟨ob667, eob667, hF⟩ := bnd hF
  obtain ⟨v668, ev668, hF⟩ := bnd hF
  refine g_callV X eob667 rfl rfl (w_X4_thrown l hl D dA h665 ob667  v668 ev668) q1851 q1852 q1853 q103 q1854 okn_X4_thrown ⟨by rw [hRf]; exact Nat.le_of_ble_eq_true rfl, by rw [hRl]; exact Nat.le_of_ble_eq_true rfl⟩ (As := []) (rest := []) rfl (by first | exact Nat.le_of_ble_eq_true rfl | simp [cat_rf, cat_i, cat_j, cat_f, cat_d]) dL_law_2943 (ac_v ?_)
  refine g_iload X dL_law_2946 rfl ?_
  refine g_icmp_eq X 2953 dL_law_2948 (by decide) (fun c669 => ?_) (fun c669 => ?_)
  · have hF := (if_pos c669).symm.trans hF
    refine g_iload X dL_law_2953 rfl ?_
    refine g_if_ne X 2970 dL_law_2955 (by decide) (fun c670 => ?_) (fun c670 => ?_)
    · have hF := (if_neg c670).symm.trans hF
      refine g_goto X 3162 dL_law_2970 (by decide) ?_
      refine g_iinc (v := (x4_8 + (5 : Int32))) (L' := [some (va_rf a1), some (va_rf k1_8), some (va_rf k2_8), some (va_rf k3_8), some (.int (x4_8 + (5 : Int32))), some (.int v662), some (.int v666), none]) X dL_law_3162 (Nat.le_of_ble_eq_true rfl) rfl rfl (by first | rfl | simp [stL, rm1, clr2, cat_rf, cat_i, cat_j, cat_f, cat_d]) ?_
      refine g_goto X 23 dL_law_3165 (by decide) ?_
      refine G.drop [true, true, true, true, true, false, false, false] rfl ?_
      cases hF
      exact hgo _ rfl
    · have hF := (if_pos c670).symm.trans hF
      refine g_aload_n X dL_law_2958 rfl rfl ?_
      refine g_iconst (v := (0 : Int32)) X dL_law_2959 (by decide) ?_
      obtain ⟨v671, ev671, hF⟩ := bnd hF
      refine g_lald X ev671 dL_law_2960 ?_
      refine g_iload X dL_law_2961 rfl ?_
      refine g_i2l X dL_law_2963 ?_
      refine g_lcmp X dL_law_2964 ?_
      refine g_if_eq X 2970 dL_law_2965 (by decide) (fun c672 => ?_) (fun c672 => ?_)
      · have hF := (if_pos c672).symm.trans hF
        refine g_goto X 3162 dL_law_2970 (by decide) ?_
        refine g_iinc (v := (x4_8 + (5 : Int32))) (L' := [some (va_rf a1), some (va_rf k1_8), some (va_rf k2_8), some (va_rf k3_8), some (.int (x4_8 + (5 : Int32))), some (.int v662), some (.int v666), none]) X dL_law_3162 (Nat.le_of_ble_eq_true rfl) rfl rfl (by first | rfl | simp [stL, rm1, clr2, cat_rf, cat_i, cat_j, cat_f, cat_d]) ?_
        refine g_goto X 23 dL_law_3165 (by decide) ?_
        refine G.drop [true, true, true, true, true, false, false, false] rfl ?_
        cases hF
        exact hgo _ rfl
      · have hF := (if_neg c672).symm.trans hF
        cases hF
  · have hF := (if_neg c669).symm.trans hF
    cases hF
def F_L_law_A2973 (a1 : Option Nat) (k1_8 : Option Nat) (k2_8 : Option Nat) (k3_8 : Option Nat) (x4_8 : Int32) (h_8 : HH) : Option ((Int32 × HH) ⊕ HH) :=
  Option.bind (isO h_8 0 k1_8) fun ob673 =>
  b2 (F_X1_clearText ob673 h_8) fun v675 h674 =>
  Option.bind (isO h674 1 k2_8) fun ob676 =>
  b2 (F_X4_clearText ob676 h674) fun v678 h677 =>
  if v675 = v678 then (
    some (.inl ((x4_8 + (5 : Int32)), h677))
  ) else (
    none
  )
set_option maxHeartbeats 4000000 in
theorem w_L_law_A2973 {p : Program} {l : Launch} {e : Env} {R : Room} {s : State} {m : MethodId} {args : Array Value} {below : List Frame} {meth : Method} {c : Code} {Q : State → Prop} {D : va_G} {dA : Nat → ClassId} {h0 : HH} (hl : l.stackTraces = false) (X : FX p l s m args meth R c cL_law 8 "FerryClocksLaw" D dA h0 []) (hRf : R.frames = 8192) (hRl : R.locals = 100000) (a1 : Option Nat) (k1_8 : Option Nat) (k2_8 : Option Nat) (k3_8 : Option Nat) (x4_8 : Int32) (h_8 : HH) (o : (Int32 × HH) ⊕ HH) : F_L_law_A2973 a1 k1_8 k2_8 k3_8 x4_8 h_8 = some o → (∀ y, o = .inl y → (fun z => G p l e R s m args below meth c Q D dA h0 8 z.2 23 [some (va_rf a1), some (va_rf k1_8), some (va_rf k2_8), some (va_rf k3_8), some (.int z.1), none, none, none] []) y) → (∀ r, o = .inr r → (fun z => G p l e R s m args below meth c Q D dA h0 8 z 3168 [none, none, none, none, none, none, none, none] []) r) → G p l e R s m args below meth c Q D dA h0 8 h_8 2973 [some (va_rf a1), some (va_rf k1_8), some (va_rf k2_8), some (va_rf k3_8), some (.int x4_8), none, none, none] [] := by
  intro hF hgo hr
  unfold F_L_law_A2973 at hF
  refine g_aload_n X dL_law_2973 rfl rfl ?_
  obtain ⟨ob673, eob673, hF⟩ := bnd hF
  obtain ⟨v675, h674, eh674, hF⟩ := b2_some hF
  refine g_callV X eob673 rfl rfl (w_X1_clearText l hl D dA h_8 ob673  v675 h674 eh674) q911 q912 q913 q92 q914 okn_X1_clearText ⟨by rw [hRf]; exact Nat.le_of_ble_eq_true rfl, by rw [hRl]; exact Nat.le_of_ble_eq_true rfl⟩ (As := []) (rest := []) rfl (by first | exact Nat.le_of_ble_eq_true rfl | simp [cat_rf, cat_i, cat_j, cat_f, cat_d]) dL_law_2974 (ac_v ?_)
  refine g_aload_n X dL_law_2977 rfl rfl ?_
  obtain ⟨ob676, eob676, hF⟩ := bnd hF
  obtain ⟨v678, h677, eh677, hF⟩ := b2_some hF
  refine g_callV X eob676 rfl rfl (w_X4_clearText l hl D dA h674 ob676  v678 h677 eh677) q2339 q2340 q2341 q103 q2342 okn_X4_clearText ⟨by rw [hRf]; exact Nat.le_of_ble_eq_true rfl, by rw [hRl]; exact Nat.le_of_ble_eq_true rfl⟩ (As := []) (rest := [.int v675]) rfl (by first | exact Nat.le_of_ble_eq_true rfl | simp [cat_rf, cat_i, cat_j, cat_f, cat_d]) dL_law_2978 (ac_v ?_)
  refine g_icmp_eq X 3162 dL_law_2981 (by decide) (fun c679 => ?_) (fun c679 => ?_)
  · have hF := (if_pos c679).symm.trans hF
    refine g_iinc (v := (x4_8 + (5 : Int32))) (L' := [some (va_rf a1), some (va_rf k1_8), some (va_rf k2_8), some (va_rf k3_8), some (.int (x4_8 + (5 : Int32))), none, none, none]) X dL_law_3162 (Nat.le_of_ble_eq_true rfl) rfl rfl (by first | rfl | simp [stL, rm1, clr2, cat_rf, cat_i, cat_j, cat_f, cat_d]) ?_
    refine g_goto X 23 dL_law_3165 (by decide) ?_
    cases hF
    exact hgo _ rfl
  · have hF := (if_neg c679).symm.trans hF
    cases hF
def F_L_law_A2986 (a1 : Option Nat) (k1_8 : Option Nat) (k2_8 : Option Nat) (k3_8 : Option Nat) (x4_8 : Int32) (h_8 : HH) : Option ((Int32 × HH) ⊕ HH) :=
  b2 (F_X0_faultPosition k1_8 k3_8 h_8) fun v681 h680 =>
  Option.bind (isO h680 1 k2_8) fun ob682 =>
  b2 (F_X4_faultPosition ob682 h680) fun v684 h683 =>
  Option.bind (isO h683 1 k2_8) fun ob685 =>
  Option.bind (F_X4_thrown ob685 h683) fun v686 =>
  if v686 = v681 then (
    if v681 = 0 then (
      Option.bind (aldJ h683 4 k3_8 (0 : Int32)) fun v689 =>
      if (lg_cmp v689 (v684.toInt64)) = 0 then (
        some (.inl ((x4_8 + (5 : Int32)), h683))
      ) else (
        none
      )
    ) else (
      some (.inl ((x4_8 + (5 : Int32)), h683))
    )
  ) else (
    none
  )
set_option maxHeartbeats 4000000 in
theorem w_L_law_A2986 {p : Program} {l : Launch} {e : Env} {R : Room} {s : State} {m : MethodId} {args : Array Value} {below : List Frame} {meth : Method} {c : Code} {Q : State → Prop} {D : va_G} {dA : Nat → ClassId} {h0 : HH} (hl : l.stackTraces = false) (X : FX p l s m args meth R c cL_law 8 "FerryClocksLaw" D dA h0 []) (hRf : R.frames = 8192) (hRl : R.locals = 100000) (a1 : Option Nat) (k1_8 : Option Nat) (k2_8 : Option Nat) (k3_8 : Option Nat) (x4_8 : Int32) (h_8 : HH) (o : (Int32 × HH) ⊕ HH) : F_L_law_A2986 a1 k1_8 k2_8 k3_8 x4_8 h_8 = some o → (∀ y, o = .inl y → (fun z => G p l e R s m args below meth c Q D dA h0 8 z.2 23 [some (va_rf a1), some (va_rf k1_8), some (va_rf k2_8), some (va_rf k3_8), some (.int z.1), none, none, none] []) y) → (∀ r, o = .inr r → (fun z => G p l e R s m args below meth c Q D dA h0 8 z 3168 [none, none, none, none, none, none, none, none] []) r) → G p l e R s m args below meth c Q D dA h0 8 h_8 2986 [some (va_rf a1), some (va_rf k1_8), some (va_rf k2_8), some (va_rf k3_8), some (.int x4_8), none, none, none] [] := by
  intro hF hgo hr
  unfold F_L_law_A2986 at hF
  refine g_aload_n X dL_law_2986 rfl rfl ?_
  refine g_aload_n X dL_law_2987 rfl rfl ?_
  obtain ⟨v681, h680, eh680, hF⟩ := b2_some hF
  refine g_callS X (w_X0_faultPosition l hl D dA h_8 k1_8 k3_8 v681 h680 eh680) q1594 q1595 q91 q1596 okn_X0_faultPosition ⟨by rw [hRf]; exact Nat.le_of_ble_eq_true rfl, by rw [hRl]; exact Nat.le_of_ble_eq_true rfl⟩ (As := [va_rf k1_8, va_rf k3_8]) (rest := []) rfl (by first | exact Nat.le_of_ble_eq_true rfl | simp [cat_rf, cat_i, cat_j, cat_f, cat_d]) dL_law_2988 (ac_v ?_)
  refine g_istore (L' := [some (va_rf a1), some (va_rf k1_8), some (va_rf k2_8), some (va_rf k3_8), some (.int x4_8), some (.int v681), none, none]) X dL_law_2991 (Nat.le_of_ble_eq_true rfl) (by first | rfl | simp [stL, rm1, clr2, cat_rf, cat_i, cat_j, cat_f, cat_d]) ?_
  refine g_aload_n X dL_law_2993 rfl rfl ?_
  obtain ⟨ob682, eob682, hF⟩ := bnd hF
  obtain ⟨v684, h683, eh683, hF⟩ := b2_some hF
  refine g_callV X eob682 rfl rfl (w_X4_faultPosition l hl D dA h680 ob682  v684 h683 eh683) q2343 q2344 q2345 q103 q2346 okn_X4_faultPosition ⟨by rw [hRf]; exact Nat.le_of_ble_eq_true rfl, by rw [hRl]; exact Nat.le_of_ble_eq_true rfl⟩ (As := []) (rest := []) rfl (by first | exact Nat.le_of_ble_eq_true rfl | simp [cat_rf, cat_i, cat_j, cat_f, cat_d]) dL_law_2994 (ac_v ?_)
  refine g_istore (L' := [some (va_rf a1), some (va_rf k1_8), some (va_rf k2_8), some (va_rf k3_8), some (.int x4_8), some (.int v681), some (.int v684), none]) X dL_law_2997 (Nat.le_of_ble_eq_true rfl) (by first | rfl | simp [stL, rm1, clr2, cat_rf, cat_i, cat_j, cat_f, cat_d]) ?_
  refine g_aload_n X dL_law_2999 rfl rfl ?_
  obtain ⟨ob685, eob685, hF⟩ := bnd hF
  obtain ⟨v686, ev686, hF⟩ := bnd hF
  refine g_callV X eob685 rfl rfl (w_X4_thrown l hl D dA h683 ob685  v686 ev686) q1851 q1852 q1853 q103 q1854 okn_X4_thrown ⟨by rw [hRf]; exact Nat.le_of_ble_eq_true rfl, by rw [hRl]; exact Nat.le_of_ble_eq_true rfl⟩ (As := []) (rest := []) rfl (by first | exact Nat.le_of_ble_eq_true rfl | simp [cat_rf, cat_i, cat_j, cat_f, cat_d]) dL_law_3000 (ac_v ?_)
  refine g_iload X dL_law_3003 rfl ?_
  refine g_icmp_eq X 3010 dL_law_3005 (by decide) (fun c687 => ?_) (fun c687 => ?_)
  · have hF := (if_pos c687).symm.trans hF
    refine g_iload X dL_law_3010 rfl ?_
    refine g_if_ne X 3027 dL_law_3012 (by decide) (fun c688 => ?_) (fun c688 => ?_)
    · have hF := (if_neg c688).symm.trans hF
      refine g_goto X 3162 dL_law_3027 (by decide) ?_
      refine g_iinc (v := (x4_8 + (5 : Int32))) (L' := [some (va_rf a1), some (va_rf k1_8), some (va_rf k2_8), some (va_rf k3_8), some (.int (x4_8 + (5 : Int32))), some (.int v681), some (.int v684), none]) X dL_law_3162 (Nat.le_of_ble_eq_true rfl) rfl rfl (by first | rfl | simp [stL, rm1, clr2, cat_rf, cat_i, cat_j, cat_f, cat_d]) ?_
      refine g_goto X 23 dL_law_3165 (by decide) ?_
      refine G.drop [true, true, true, true, true, false, false, false] rfl ?_
      cases hF
      exact hgo _ rfl
    · have hF := (if_pos c688).symm.trans hF
      refine g_aload_n X dL_law_3015 rfl rfl ?_
      refine g_iconst (v := (0 : Int32)) X dL_law_3016 (by decide) ?_
      obtain ⟨v689, ev689, hF⟩ := bnd hF
      refine g_lald X ev689 dL_law_3017 ?_
      refine g_iload X dL_law_3018 rfl ?_
      refine g_i2l X dL_law_3020 ?_
      refine g_lcmp X dL_law_3021 ?_
      refine g_if_eq X 3027 dL_law_3022 (by decide) (fun c690 => ?_) (fun c690 => ?_)
      · have hF := (if_pos c690).symm.trans hF
        refine g_goto X 3162 dL_law_3027 (by decide) ?_
        refine g_iinc (v := (x4_8 + (5 : Int32))) (L' := [some (va_rf a1), some (va_rf k1_8), some (va_rf k2_8), some (va_rf k3_8), some (.int (x4_8 + (5 : Int32))), some (.int v681), some (.int v684), none]) X dL_law_3162 (Nat.le_of_ble_eq_true rfl) rfl rfl (by first | rfl | simp [stL, rm1, clr2, cat_rf, cat_i, cat_j, cat_f, cat_d]) ?_
        refine g_goto X 23 dL_law_3165 (by decide) ?_
        refine G.drop [true, true, true, true, true, false, false, false] rfl ?_
        cases hF
        exact hgo _ rfl
      · have hF := (if_neg c690).symm.trans hF
        cases hF
  · have hF := (if_neg c687).symm.trans hF
    cases hF
def F_L_law_A3030 (a1 : Option Nat) (k1_8 : Option Nat) (k2_8 : Option Nat) (k3_8 : Option Nat) (x4_8 : Int32) (h_8 : HH) : Option ((Int32 × HH) ⊕ HH) :=
  b2 (F_X0_faultReason k1_8 k3_8 h_8) fun v692 h691 =>
  Option.bind (isO h691 1 k2_8) fun ob693 =>
  b2 (F_X4_faultReason ob693 h691) fun v695 h694 =>
  Option.bind (isO h694 1 k2_8) fun ob696 =>
  Option.bind (F_X4_thrown ob696 h694) fun v697 =>
  if v697 = v692 then (
    if v692 = 0 then (
      Option.bind (aldJ h694 4 k3_8 (0 : Int32)) fun v700 =>
      if (lg_cmp v700 (v695.toInt64)) = 0 then (
        some (.inl ((x4_8 + (5 : Int32)), h694))
      ) else (
        none
      )
    ) else (
      some (.inl ((x4_8 + (5 : Int32)), h694))
    )
  ) else (
    none
  )
set_option maxHeartbeats 4000000 in
theorem w_L_law_A3030 {p : Program} {l : Launch} {e : Env} {R : Room} {s : State} {m : MethodId} {args : Array Value} {below : List Frame} {meth : Method} {c : Code} {Q : State → Prop} {D : va_G} {dA : Nat → ClassId} {h0 : HH} (hl : l.stackTraces = false) (X : FX p l s m args meth R c cL_law 8 "FerryClocksLaw" D dA h0 []) (hRf : R.frames = 8192) (hRl : R.locals = 100000) (a1 : Option Nat) (k1_8 : Option Nat) (k2_8 : Option Nat) (k3_8 : Option Nat) (x4_8 : Int32) (h_8 : HH) (o : (Int32 × HH) ⊕ HH) : F_L_law_A3030 a1 k1_8 k2_8 k3_8 x4_8 h_8 = some o → (∀ y, o = .inl y → (fun z => G p l e R s m args below meth c Q D dA h0 8 z.2 23 [some (va_rf a1), some (va_rf k1_8), some (va_rf k2_8), some (va_rf k3_8), some (.int z.1), none, none, none] []) y) → (∀ r, o = .inr r → (fun z => G p l e R s m args below meth c Q D dA h0 8 z 3168 [none, none, none, none, none, none, none, none] []) r) → G p l e R s m args below meth c Q D dA h0 8 h_8 3030 [some (va_rf a1), some (va_rf k1_8), some (va_rf k2_8), some (va_rf k3_8), some (.int x4_8), none, none, none] [] := by
  intro hF hgo hr
  unfold F_L_law_A3030 at hF
  refine g_aload_n X dL_law_3030 rfl rfl ?_
  refine g_aload_n X dL_law_3031 rfl rfl ?_
  obtain ⟨v692, h691, eh691, hF⟩ := b2_some hF
  refine g_callS X (w_X0_faultReason l hl D dA h_8 k1_8 k3_8 v692 h691 eh691) q1731 q1732 q91 q1733 okn_X0_faultReason ⟨by rw [hRf]; exact Nat.le_of_ble_eq_true rfl, by rw [hRl]; exact Nat.le_of_ble_eq_true rfl⟩ (As := [va_rf k1_8, va_rf k3_8]) (rest := []) rfl (by first | exact Nat.le_of_ble_eq_true rfl | simp [cat_rf, cat_i, cat_j, cat_f, cat_d]) dL_law_3032 (ac_v ?_)
  refine g_istore (L' := [some (va_rf a1), some (va_rf k1_8), some (va_rf k2_8), some (va_rf k3_8), some (.int x4_8), some (.int v692), none, none]) X dL_law_3035 (Nat.le_of_ble_eq_true rfl) (by first | rfl | simp [stL, rm1, clr2, cat_rf, cat_i, cat_j, cat_f, cat_d]) ?_
  refine g_aload_n X dL_law_3037 rfl rfl ?_
  obtain ⟨ob693, eob693, hF⟩ := bnd hF
  obtain ⟨v695, h694, eh694, hF⟩ := b2_some hF
  refine g_callV X eob693 rfl rfl (w_X4_faultReason l hl D dA h691 ob693  v695 h694 eh694) q2375 q2376 q2377 q103 q2378 okn_X4_faultReason ⟨by rw [hRf]; exact Nat.le_of_ble_eq_true rfl, by rw [hRl]; exact Nat.le_of_ble_eq_true rfl⟩ (As := []) (rest := []) rfl (by first | exact Nat.le_of_ble_eq_true rfl | simp [cat_rf, cat_i, cat_j, cat_f, cat_d]) dL_law_3038 (ac_v ?_)
  refine g_istore (L' := [some (va_rf a1), some (va_rf k1_8), some (va_rf k2_8), some (va_rf k3_8), some (.int x4_8), some (.int v692), some (.int v695), none]) X dL_law_3041 (Nat.le_of_ble_eq_true rfl) (by first | rfl | simp [stL, rm1, clr2, cat_rf, cat_i, cat_j, cat_f, cat_d]) ?_
  refine g_aload_n X dL_law_3043 rfl rfl ?_
  obtain ⟨ob696, eob696, hF⟩ := bnd hF
  obtain ⟨v697, ev697, hF⟩ := bnd hF
  refine g_callV X eob696 rfl rfl (w_X4_thrown l hl D dA h694 ob696  v697 ev697) q1851 q1852 q1853 q103 q1854 okn_X4_thrown ⟨by rw [hRf]; exact Nat.le_of_ble_eq_true rfl, by rw [hRl]; exact Nat.le_of_ble_eq_true rfl⟩ (As := []) (rest := []) rfl (by first | exact Nat.le_of_ble_eq_true rfl | simp [cat_rf, cat_i, cat_j, cat_f, cat_d]) dL_law_3044 (ac_v ?_)
  refine g_iload X dL_law_3047 rfl ?_
  refine g_icmp_eq X 3054 dL_law_3049 (by decide) (fun c698 => ?_) (fun c698 => ?_)
  · have hF := (if_pos c698).symm.trans hF
    refine g_iload X dL_law_3054 rfl ?_
    refine g_if_ne X 3071 dL_law_3056 (by decide) (fun c699 => ?_) (fun c699 => ?_)
    · have hF := (if_neg c699).symm.trans hF
      refine g_goto X 3162 dL_law_3071 (by decide) ?_
      refine g_iinc (v := (x4_8 + (5 : Int32))) (L' := [some (va_rf a1), some (va_rf k1_8), some (va_rf k2_8), some (va_rf k3_8), some (.int (x4_8 + (5 : Int32))), some (.int v692), some (.int v695), none]) X dL_law_3162 (Nat.le_of_ble_eq_true rfl) rfl rfl (by first | rfl | simp [stL, rm1, clr2, cat_rf, cat_i, cat_j, cat_f, cat_d]) ?_
      refine g_goto X 23 dL_law_3165 (by decide) ?_
      refine G.drop [true, true, true, true, true, false, false, false] rfl ?_
      cases hF
      exact hgo _ rfl
    · have hF := (if_pos c699).symm.trans hF
      refine g_aload_n X dL_law_3059 rfl rfl ?_
      refine g_iconst (v := (0 : Int32)) X dL_law_3060 (by decide) ?_
      obtain ⟨v700, ev700, hF⟩ := bnd hF
      refine g_lald X ev700 dL_law_3061 ?_
      refine g_iload X dL_law_3062 rfl ?_
      refine g_i2l X dL_law_3064 ?_
      refine g_lcmp X dL_law_3065 ?_
      refine g_if_eq X 3071 dL_law_3066 (by decide) (fun c701 => ?_) (fun c701 => ?_)
      · have hF := (if_pos c701).symm.trans hF
        refine g_goto X 3162 dL_law_3071 (by decide) ?_
        refine g_iinc (v := (x4_8 + (5 : Int32))) (L' := [some (va_rf a1), some (va_rf k1_8), some (va_rf k2_8), some (va_rf k3_8), some (.int (x4_8 + (5 : Int32))), some (.int v692), some (.int v695), none]) X dL_law_3162 (Nat.le_of_ble_eq_true rfl) rfl rfl (by first | rfl | simp [stL, rm1, clr2, cat_rf, cat_i, cat_j, cat_f, cat_d]) ?_
        refine g_goto X 23 dL_law_3165 (by decide) ?_
        refine G.drop [true, true, true, true, true, false, false, false] rfl ?_
        cases hF
        exact hgo _ rfl
      · have hF := (if_neg c701).symm.trans hF
        cases hF
  · have hF := (if_neg c698).symm.trans hF
    cases hF
def F_L_law_A3074 (a1 : Option Nat) (k1_8 : Option Nat) (k2_8 : Option Nat) (k3_8 : Option Nat) (x4_8 : Int32) (h_8 : HH) : Option ((Int32 × HH) ⊕ HH) :=
  b2 (F_X0_faultCause k1_8 k3_8 h_8) fun v703 h702 =>
  Option.bind (isO h702 1 k2_8) fun ob704 =>
  b2 (F_X4_faultCause ob704 h702) fun v706 h705 =>
  Option.bind (isO h705 1 k2_8) fun ob707 =>
  Option.bind (F_X4_thrown ob707 h705) fun v708 =>
  if v708 = v703 then (
    if v703 = 0 then (
      Option.bind (aldJ h705 4 k3_8 (0 : Int32)) fun v711 =>
      if (lg_cmp v711 (v706.toInt64)) = 0 then (
        some (.inl ((x4_8 + (5 : Int32)), h705))
      ) else (
        none
      )
    ) else (
      some (.inl ((x4_8 + (5 : Int32)), h705))
    )
  ) else (
    none
  )
set_option maxHeartbeats 4000000 in
theorem w_L_law_A3074 {p : Program} {l : Launch} {e : Env} {R : Room} {s : State} {m : MethodId} {args : Array Value} {below : List Frame} {meth : Method} {c : Code} {Q : State → Prop} {D : va_G} {dA : Nat → ClassId} {h0 : HH} (hl : l.stackTraces = false) (X : FX p l s m args meth R c cL_law 8 "FerryClocksLaw" D dA h0 []) (hRf : R.frames = 8192) (hRl : R.locals = 100000) (a1 : Option Nat) (k1_8 : Option Nat) (k2_8 : Option Nat) (k3_8 : Option Nat) (x4_8 : Int32) (h_8 : HH) (o : (Int32 × HH) ⊕ HH) : F_L_law_A3074 a1 k1_8 k2_8 k3_8 x4_8 h_8 = some o → (∀ y, o = .inl y → (fun z => G p l e R s m args below meth c Q D dA h0 8 z.2 23 [some (va_rf a1), some (va_rf k1_8), some (va_rf k2_8), some (va_rf k3_8), some (.int z.1), none, none, none] []) y) → (∀ r, o = .inr r → (fun z => G p l e R s m args below meth c Q D dA h0 8 z 3168 [none, none, none, none, none, none, none, none] []) r) → G p l e R s m args below meth c Q D dA h0 8 h_8 3074 [some (va_rf a1), some (va_rf k1_8), some (va_rf k2_8), some (va_rf k3_8), some (.int x4_8), none, none, none] [] := by
  intro hF hgo hr
  unfold F_L_law_A3074 at hF
  refine g_aload_n X dL_law_3074 rfl rfl ?_
  refine g_aload_n X dL_law_3075 rfl rfl ?_
  obtain ⟨v703, h702, eh702, hF⟩ := b2_some hF
  refine g_callS X (w_X0_faultCause l hl D dA h_8 k1_8 k3_8 v703 h702 eh702) q1738 q1739 q91 q1740 okn_X0_faultCause ⟨by rw [hRf]; exact Nat.le_of_ble_eq_true rfl, by rw [hRl]; exact Nat.le_of_ble_eq_true rfl⟩ (As := [va_rf k1_8, va_rf k3_8]) (rest := []) rfl (by first | exact Nat.le_of_ble_eq_true rfl | simp [cat_rf, cat_i, cat_j, cat_f, cat_d]) dL_law_3076 (ac_v ?_)
  refine g_istore (L' := [some (va_rf a1), some (va_rf k1_8), some (va_rf k2_8), some (va_rf k3_8), some (.int x4_8), some (.int v703), none, none]) X dL_law_3079 (Nat.le_of_ble_eq_true rfl) (by first | rfl | simp [stL, rm1, clr2, cat_rf, cat_i, cat_j, cat_f, cat_d]) ?_
  refine g_aload_n X dL_law_3081 rfl rfl ?_
  obtain ⟨ob704, eob704, hF⟩ := bnd hF
  obtain ⟨v706, h705, eh705, hF⟩ := b2_some hF
  refine g_callV X eob704 rfl rfl (w_X4_faultCause l hl D dA h702 ob704  v706 h705 eh705) q2379 q2380 q2381 q103 q2382 okn_X4_faultCause ⟨by rw [hRf]; exact Nat.le_of_ble_eq_true rfl, by rw [hRl]; exact Nat.le_of_ble_eq_true rfl⟩ (As := []) (rest := []) rfl (by first | exact Nat.le_of_ble_eq_true rfl | simp [cat_rf, cat_i, cat_j, cat_f, cat_d]) dL_law_3082 (ac_v ?_)
  refine g_istore (L' := [some (va_rf a1), some (va_rf k1_8), some (va_rf k2_8), some (va_rf k3_8), some (.int x4_8), some (.int v703), some (.int v706), none]) X dL_law_3085 (Nat.le_of_ble_eq_true rfl) (by first | rfl | simp [stL, rm1, clr2, cat_rf, cat_i, cat_j, cat_f, cat_d]) ?_
  refine g_aload_n X dL_law_3087 rfl rfl ?_
  obtain ⟨ob707, eob707, hF⟩ := bnd hF
  obtain ⟨v708, ev708, hF⟩ := bnd hF
  refine g_callV X eob707 rfl rfl (w_X4_thrown l hl D dA h705 ob707  v708 ev708) q1851 q1852 q1853 q103 q1854 okn_X4_thrown ⟨by rw [hRf]; exact Nat.le_of_ble_eq_true rfl, by rw [hRl]; exact Nat.le_of_ble_eq_true rfl⟩ (As := []) (rest := []) rfl (by first | exact Nat.le_of_ble_eq_true rfl | simp [cat_rf, cat_i, cat_j, cat_f, cat_d]) dL_law_3088 (ac_v ?_)
  refine g_iload X dL_law_3091 rfl ?_
  refine g_icmp_eq X 3098 dL_law_3093 (by decide) (fun c709 => ?_) (fun c709 => ?_)
  · have hF := (if_pos c709).symm.trans hF
    refine g_iload X dL_law_3098 rfl ?_
    refine g_if_ne X 3115 dL_law_3100 (by decide) (fun c710 => ?_) (fun c710 => ?_)
    · have hF := (if_neg c710).symm.trans hF
      refine g_goto X 3162 dL_law_3115 (by decide) ?_
      refine g_iinc (v := (x4_8 + (5 : Int32))) (L' := [some (va_rf a1), some (va_rf k1_8), some (va_rf k2_8), some (va_rf k3_8), some (.int (x4_8 + (5 : Int32))), some (.int v703), some (.int v706), none]) X dL_law_3162 (Nat.le_of_ble_eq_true rfl) rfl rfl (by first | rfl | simp [stL, rm1, clr2, cat_rf, cat_i, cat_j, cat_f, cat_d]) ?_
      refine g_goto X 23 dL_law_3165 (by decide) ?_
      refine G.drop [true, true, true, true, true, false, false, false] rfl ?_
      cases hF
      exact hgo _ rfl
    · have hF := (if_pos c710).symm.trans hF
      refine g_aload_n X dL_law_3103 rfl rfl ?_
      refine g_iconst (v := (0 : Int32)) X dL_law_3104 (by decide) ?_
      obtain ⟨v711, ev711, hF⟩ := bnd hF
      refine g_lald X ev711 dL_law_3105 ?_
      refine g_iload X dL_law_3106 rfl ?_
      refine g_i2l X dL_law_3108 ?_
      refine g_lcmp X dL_law_3109 ?_
      refine g_if_eq X 3115 dL_law_3110 (by decide) (fun c712 => ?_) (fun c712 => ?_)
      · have hF := (if_pos c712).symm.trans hF
        refine g_goto X 3162 dL_law_3115 (by decide) ?_
        refine g_iinc (v := (x4_8 + (5 : Int32))) (L' := [some (va_rf a1), some (va_rf k1_8), some (va_rf k2_8), some (va_rf k3_8), some (.int (x4_8 + (5 : Int32))), some (.int v703), some (.int v706), none]) X dL_law_3162 (Nat.le_of_ble_eq_true rfl) rfl rfl (by first | rfl | simp [stL, rm1, clr2, cat_rf, cat_i, cat_j, cat_f, cat_d]) ?_
        refine g_goto X 23 dL_law_3165 (by decide) ?_
        refine G.drop [true, true, true, true, true, false, false, false] rfl ?_
        cases hF
        exact hgo _ rfl
      · have hF := (if_neg c712).symm.trans hF
        cases hF
  · have hF := (if_neg c709).symm.trans hF
    cases hF
def F_L_law_A3118 (a1 : Option Nat) (k1_8 : Option Nat) (k2_8 : Option Nat) (k3_8 : Option Nat) (x4_8 : Int32) (h_8 : HH) : Option ((Int32 × HH) ⊕ HH) :=
  b2 (F_X0_play k1_8 k3_8 h_8) fun v714 h713 =>
  Option.bind (isO h713 1 k2_8) fun ob715 =>
  b2 (F_X4_play ob715 h713) fun v717 h716 =>
  Option.bind (isO h716 1 k2_8) fun ob718 =>
  Option.bind (F_X4_thrown ob718 h716) fun v719 =>
  if v719 = v714 then (
    if v714 = 0 then (
      Option.bind (aldJ h716 4 k3_8 (0 : Int32)) fun v722 =>
      if (lg_cmp v722 (v717.toInt64)) = 0 then (
        some (.inl ((x4_8 + (5 : Int32)), h716))
      ) else (
        none
      )
    ) else (
      some (.inl ((x4_8 + (5 : Int32)), h716))
    )
  ) else (
    none
  )
set_option maxHeartbeats 4000000 in
theorem w_L_law_A3118 {p : Program} {l : Launch} {e : Env} {R : Room} {s : State} {m : MethodId} {args : Array Value} {below : List Frame} {meth : Method} {c : Code} {Q : State → Prop} {D : va_G} {dA : Nat → ClassId} {h0 : HH} (hl : l.stackTraces = false) (X : FX p l s m args meth R c cL_law 8 "FerryClocksLaw" D dA h0 []) (hRf : R.frames = 8192) (hRl : R.locals = 100000) (a1 : Option Nat) (k1_8 : Option Nat) (k2_8 : Option Nat) (k3_8 : Option Nat) (x4_8 : Int32) (h_8 : HH) (o : (Int32 × HH) ⊕ HH) : F_L_law_A3118 a1 k1_8 k2_8 k3_8 x4_8 h_8 = some o → (∀ y, o = .inl y → (fun z => G p l e R s m args below meth c Q D dA h0 8 z.2 23 [some (va_rf a1), some (va_rf k1_8), some (va_rf k2_8), some (va_rf k3_8), some (.int z.1), none, none, none] []) y) → (∀ r, o = .inr r → (fun z => G p l e R s m args below meth c Q D dA h0 8 z 3168 [none, none, none, none, none, none, none, none] []) r) → G p l e R s m args below meth c Q D dA h0 8 h_8 3118 [some (va_rf a1), some (va_rf k1_8), some (va_rf k2_8), some (va_rf k3_8), some (.int x4_8), none, none, none] [] := by
  intro hF hgo hr
  unfold F_L_law_A3118 at hF
  refine g_aload_n X dL_law_3118 rfl rfl ?_
  refine g_aload_n X dL_law_3119 rfl rfl ?_
  obtain ⟨v714, h713, eh713, hF⟩ := b2_some hF
  refine g_callS X (w_X0_play l hl D dA h_8 k1_8 k3_8 v714 h713 eh713) q1745 q1746 q91 q1747 okn_X0_play ⟨by rw [hRf]; exact Nat.le_of_ble_eq_true rfl, by rw [hRl]; exact Nat.le_of_ble_eq_true rfl⟩ (As := [va_rf k1_8, va_rf k3_8]) (rest := []) rfl (by first | exact Nat.le_of_ble_eq_true rfl | simp [cat_rf, cat_i, cat_j, cat_f, cat_d]) dL_law_3120 (ac_v ?_)
  refine g_istore (L' := [some (va_rf a1), some (va_rf k1_8), some (va_rf k2_8), some (va_rf k3_8), some (.int x4_8), some (.int v714), none, none]) X dL_law_3123 (Nat.le_of_ble_eq_true rfl) (by first | rfl | simp [stL, rm1, clr2, cat_rf, cat_i, cat_j, cat_f, cat_d]) ?_
  refine g_aload_n X dL_law_3125 rfl rfl ?_
  obtain ⟨ob715, eob715, hF⟩ := bnd hF
  obtain ⟨v717, h716, eh716, hF⟩ := b2_some hF
  refine g_callV X eob715 rfl rfl (w_X4_play l hl D dA h713 ob715  v717 h716 eh716) q2383 q2384 q2385 q103 q2386 okn_X4_play ⟨by rw [hRf]; exact Nat.le_of_ble_eq_true rfl, by rw [hRl]; exact Nat.le_of_ble_eq_true rfl⟩ (As := []) (rest := []) rfl (by first | exact Nat.le_of_ble_eq_true rfl | simp [cat_rf, cat_i, cat_j, cat_f, cat_d]) dL_law_3126 (ac_v ?_)
  refine g_istore (L' := [some (va_rf a1), some (va_rf k1_8), some (va_rf k2_8), some (va_rf k3_8), some (.int x4_8), some (.int v714), some (.int v717), none]) X dL_law_3129 (Nat.le_of_ble_eq_true rfl) (by first | rfl | simp [stL, rm1, clr2, cat_rf, cat_i, cat_j, cat_f, cat_d]) ?_
  refine g_aload_n X dL_law_3131 rfl rfl ?_
  obtain ⟨ob718, eob718, hF⟩ := bnd hF
  obtain ⟨v719, ev719, hF⟩ := bnd hF
  refine g_callV X eob718 rfl rfl (w_X4_thrown l hl D dA h716 ob718  v719 ev719) q1851 q1852 q1853 q103 q1854 okn_X4_thrown ⟨by rw [hRf]; exact Nat.le_of_ble_eq_true rfl, by rw [hRl]; exact Nat.le_of_ble_eq_true rfl⟩ (As := []) (rest := []) rfl (by first | exact Nat.le_of_ble_eq_true rfl | simp [cat_rf, cat_i, cat_j, cat_f, cat_d]) dL_law_3132 (ac_v ?_)
  refine g_iload X dL_law_3135 rfl ?_
  refine g_icmp_eq X 3142 dL_law_3137 (by decide) (fun c720 => ?_) (fun c720 => ?_)
  · have hF := (if_pos c720).symm.trans hF
    refine g_iload X dL_law_3142 rfl ?_
    refine g_if_ne X 3159 dL_law_3144 (by decide) (fun c721 => ?_) (fun c721 => ?_)
    · have hF := (if_neg c721).symm.trans hF
      refine g_goto X 3162 dL_law_3159 (by decide) ?_
      refine g_iinc (v := (x4_8 + (5 : Int32))) (L' := [some (va_rf a1), some (va_rf k1_8), some (va_rf k2_8), some (va_rf k3_8), some (.int (x4_8 + (5 : Int32))), some (.int v714), some (.int v717), none]) X dL_law_3162 (Nat.le_of_ble_eq_true rfl) rfl rfl (by first | rfl | simp [stL, rm1, clr2, cat_rf, cat_i, cat_j, cat_f, cat_d]) ?_
      refine g_goto X 23 dL_law_3165 (by decide) ?_
      refine G.drop [true, true, true, true, true, false, false, false] rfl ?_
      cases hF
      exact hgo _ rfl
    · have hF := (if_pos c721).symm.trans hF
      refine g_aload_n X dL_law_3147 rfl rfl ?_
      refine g_iconst (v := (0 : Int32)) X dL_law_3148 (by decide) ?_
      obtain ⟨v722, ev722, hF⟩ := bnd hF
      refine g_lald X ev722 dL_law_3149 ?_
      refine g_iload X dL_law_3150 rfl ?_
      refine g_i2l X dL_law_3152 ?_
      refine g_lcmp X dL_law_3153 ?_
      refine g_if_eq X 3159 dL_law_3154 (by decide) (fun c723 => ?_) (fun c723 => ?_)
      · have hF := (if_pos c723).symm.trans hF
        refine g_goto X 3162 dL_law_3159 (by decide) ?_
        refine g_iinc (v := (x4_8 + (5 : Int32))) (L' := [some (va_rf a1), some (va_rf k1_8), some (va_rf k2_8), some (va_rf k3_8), some (.int (x4_8 + (5 : Int32))), some (.int v714), some (.int v717), none]) X dL_law_3162 (Nat.le_of_ble_eq_true rfl) rfl rfl (by first | rfl | simp [stL, rm1, clr2, cat_rf, cat_i, cat_j, cat_f, cat_d]) ?_
        refine g_goto X 23 dL_law_3165 (by decide) ?_
        refine G.drop [true, true, true, true, true, false, false, false] rfl ?_
        cases hF
        exact hgo _ rfl
      · have hF := (if_neg c723).symm.trans hF
        cases hF
  · have hF := (if_neg c720).symm.trans hF
    cases hF
