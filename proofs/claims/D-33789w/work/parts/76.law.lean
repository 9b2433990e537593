def F_L_law_A292 (a1 : Option Nat) (k1_8 : Option Nat) (k2_8 : Option Nat) (k3_8 : Option Nat) (x4_8 : Int32) (h_8 : HH) : Option ((Int32 × HH) ⊕ HH) :=
  Option.bind (aldI h_8 0 a1 (x4_8 + (1 : Int32))) fun v12 =>
  Option.bind (aldI h_8 0 a1 (x4_8 + (2 : Int32))) fun v13 =>
  Option.bind (aldI h_8 0 a1 (x4_8 + (3 : Int32))) fun v14 =>
  b2 (F_X0_tell k1_8 v12 v13 v14 k3_8 h_8) fun v16 h15 =>
  Option.bind (aldI h15 0 a1 (x4_8 + (1 : Int32))) fun v17 =>
  Option.bind (aldI h15 0 a1 (x4_8 + (2 : Int32))) fun v18 =>
  Option.bind (aldI h15 0 a1 (x4_8 + (3 : Int32))) fun v19 =>
  Option.bind (isO h15 1 k2_8) fun ob20 =>
  b2 (F_X4_tell ob20 v17 v18 v19 h15) fun v22 h21 =>
  Option.bind (isO h21 1 k2_8) fun ob23 =>
  Option.bind (F_X4_thrown ob23 h21) fun v24 =>
  if v24 = v16 then (
    if v16 = 0 then (
      Option.bind (aldJ h21 4 k3_8 (0 : Int32)) fun v27 =>
      if (lg_cmp v27 (if v22 = 0 then (0 : Int64) else (1 : Int64))) = 0 then (
        some (.inl ((x4_8 + (5 : Int32)), h21))
      ) else (
        none
      )
    ) else (
      some (.inl ((x4_8 + (5 : Int32)), h21))
    )
  ) else (
    none
  )
set_option maxHeartbeats 4000000 in
theorem w_L_law_A292 {p : Program} {l : Launch} {e : Env} {R : Room} {s : State} {m : MethodId} {args : Array Value} {below : List Frame} {meth : Method} {c : Code} {Q : State → Prop} {D : va_G} {dA : Nat → ClassId} {h0 : HH} (hl : l.stackTraces = false) (X : FX p l s m args meth R c cL_law 8 "FerryClocksLaw" D dA h0 []) (hRf : R.frames = 8192) (hRl : R.locals = 100000) (a1 : Option Nat) (k1_8 : Option Nat) (k2_8 : Option Nat) (k3_8 : Option Nat) (x4_8 : Int32) (h_8 : HH) (o : (Int32 × HH) ⊕ HH) : F_L_law_A292 a1 k1_8 k2_8 k3_8 x4_8 h_8 = some o → (∀ y, o = .inl y → (fun z => G p l e R s m args below meth c Q D dA h0 8 z.2 23 [some (va_rf a1), some (va_rf k1_8), some (va_rf k2_8), some (va_rf k3_8), some (.int z.1), none, none, none] []) y) → (∀ r, o = .inr r → (fun z => G p l e R s m args below meth c Q D dA h0 8 z 3168 [none, none, none, none, none, none, none, none] []) r) → G p l e R s m args below meth c Q D dA h0 8 h_8 292 [some (va_rf a1), some (va_rf k1_8), some (va_rf k2_8), some (va_rf k3_8), some (.int x4_8), none, none, none] [] := by
  intro hF hgo hr
  unfold F_L_law_A292 at hF
  refine g_aload_n X dL_law_292 rfl rfl ?_
  refine g_aload_n X dL_law_293 rfl rfl ?_
  refine g_iload X dL_law_294 rfl ?_
  refine g_iconst (v := (1 : Int32)) X dL_law_296 (by decide) ?_
  refine g_iadd X dL_law_297 ?_
  obtain ⟨v12, ev12, hF⟩ := bnd hF
  refine g_iald X ev12 dL_law_298 ?_
  refine g_aload_n X dL_law_299 rfl rfl ?_
  refine g_iload X dL_law_300 rfl ?_
  refine g_iconst (v := (2 : Int32)) X dL_law_302 (by decide) ?_
  refine g_iadd X dL_law_303 ?_
  obtain ⟨v13, ev13, hF⟩ := bnd hF
  refine g_iald X ev13 dL_law_304 ?_
  refine g_aload_n X dL_law_305 rfl rfl ?_
  refine g_iload X dL_law_306 rfl ?_
  refine g_iconst (v := (3 : Int32)) X dL_law_308 (by decide) ?_
  refine g_iadd X dL_law_309 ?_
  obtain ⟨v14, ev14, hF⟩ := bnd hF
  refine g_iald X ev14 dL_law_310 ?_
  refine g_aload_n X dL_law_311 rfl rfl ?_
  obtain ⟨v16, h15, eh15, hF⟩ := b2_some hF
  refine g_callS X (w_X0_tell l hl D dA h_8 k1_8 v12 v13 v14 k3_8 v16 h15 eh15) q1131 q1132 q91 q1133 okn_X0_tell ⟨by rw [hRf]; exact Nat.le_of_ble_eq_true rfl, by rw [hRl]; exact Nat.le_of_ble_eq_true rfl⟩ (As := [va_rf k1_8, .int v12, .int v13, .int v14, va_rf k3_8]) (rest := []) rfl (by first | exact Nat.le_of_ble_eq_true rfl | simp [cat_rf, cat_i, cat_j, cat_f, cat_d]) dL_law_312 (ac_v ?_)
  refine g_istore (L' := [some (va_rf a1), some (va_rf k1_8), some (va_rf k2_8), some (va_rf k3_8), some (.int x4_8), some (.int v16), none, none]) X dL_law_315 (Nat.le_of_ble_eq_true rfl) (by first | rfl | simp [stL, rm1, clr2, cat_rf, cat_i, cat_j, cat_f, cat_d]) ?_
  refine g_aload_n X dL_law_317 rfl rfl ?_
  refine g_aload_n X dL_law_318 rfl rfl ?_
  refine g_iload X dL_law_319 rfl ?_
  refine g_iconst (v := (1 : Int32)) X dL_law_321 (by decide) ?_
  refine g_iadd X dL_law_322 ?_
  obtain ⟨v17, ev17, hF⟩ := bnd hF
  refine g_iald X ev17 dL_law_323 ?_
  refine g_aload_n X dL_law_324 rfl rfl ?_
  refine g_iload X dL_law_325 rfl ?_
  refine g_iconst (v := (2 : Int32)) X dL_law_327 (by decide) ?_
  refine g_iadd X dL_law_328 ?_
  obtain ⟨v18, ev18, hF⟩ := bnd hF
  refine g_iald X ev18 dL_law_329 ?_
  refine g_aload_n X dL_law_330 rfl rfl ?_
  refine g_iload X dL_law_331 rfl ?_
  refine g_iconst (v := (3 : Int32)) X dL_law_333 (by decide) ?_
  refine g_iadd X dL_law_334 ?_
  obtain ⟨v19, ev19, hF⟩ := bnd hF
  refine g_iald X ev19 dL_law_335 ?_
  obtain ⟨ob20, eob20, hF⟩ := bnd hF
  obtain ⟨v22, h21, eh21, hF⟩ := b2_some hF
  refine g_callV X eob20 rfl rfl (w_X4_tell l hl D dA h15 ob20 v17 v18 v19 v22 h21 eh21) q1855 q1856 q1857 q103 q1858 okn_X4_tell ⟨by rw [hRf]; exact Nat.le_of_ble_eq_true rfl, by rw [hRl]; exact Nat.le_of_ble_eq_true rfl⟩ (As := [.int v17, .int v18, .int v19]) (rest := []) rfl (by first | exact Nat.le_of_ble_eq_true rfl | simp [cat_rf, cat_i, cat_j, cat_f, cat_d]) dL_law_336 (ac_v ?_)
  refine g_istore (L' := [some (va_rf a1), some (va_rf k1_8), some (va_rf k2_8), some (va_rf k3_8), some (.int x4_8), some (.int v16), some (.int v22), none]) X dL_law_339 (Nat.le_of_ble_eq_true rfl) (by first | rfl | simp [stL, rm1, clr2, cat_rf, cat_i, cat_j, cat_f, cat_d]) ?_
  refine g_aload_n X dL_law_341 rfl rfl ?_
  obtain ⟨ob23, eob23, hF⟩ := bnd hF
  obtain ⟨v24, ev24, hF⟩ := bnd hF
  refine g_callV X eob23 rfl rfl (w_X4_thrown l hl D dA h21 ob23  v24 ev24) q1851 q1852 q1853 q103 q1854 okn_X4_thrown ⟨by rw [hRf]; exact Nat.le_of_ble_eq_true rfl, by rw [hRl]; exact Nat.le_of_ble_eq_true rfl⟩ (As := []) (rest := []) rfl (by first | exact Nat.le_of_ble_eq_true rfl | simp [cat_rf, cat_i, cat_j, cat_f, cat_d]) dL_law_342 (ac_v ?_)
  refine g_iload X dL_law_345 rfl ?_
  refine g_icmp_eq X 352 dL_law_347 (by decide) (fun c25 => ?_) (fun c25 => ?_)
  · have hF := (if_pos c25).symm.trans hF
    refine g_iload X dL_law_352 rfl ?_
    refine g_if_ne X 376 dL_law_354 (by decide) (fun c26 => ?_) (fun c26 => ?_)
    · have hF := (if_neg c26).symm.trans hF
      refine g_goto X 3162 dL_law_376 (by decide) ?_
      refine g_iinc (v := (x4_8 + (5 : Int32))) (L' := [some (va_rf a1), some (va_rf k1_8), some (va_rf k2_8), some (va_rf k3_8), some (.int (x4_8 + (5 : Int32))), some (.int v16), some (.int v22), none]) X dL_law_3162 (Nat.le_of_ble_eq_true rfl) rfl rfl (by first | rfl | simp [stL, rm1, clr2, cat_rf, cat_i, cat_j, cat_f, cat_d]) ?_
      refine g_goto X 23 dL_law_3165 (by decide) ?_
      refine G.drop [true, true, true, true, true, false, false, false] rfl ?_
      cases hF
      exact hgo _ rfl
    · have hF := (if_pos c26).symm.trans hF
      refine g_aload_n X dL_law_357 rfl rfl ?_
      refine g_iconst (v := (0 : Int32)) X dL_law_358 (by decide) ?_
      obtain ⟨v27, ev27, hF⟩ := bnd hF
      refine g_lald X ev27 dL_law_359 ?_
      refine g_iload X dL_law_360 rfl ?_
      suffices K : G p l e R s m args below meth c Q D dA h0 8 h21 370 [some (va_rf a1), some (va_rf k1_8), some (va_rf k2_8), some (va_rf k3_8), some (.int x4_8), none, none, none] [.long (if v22 = 0 then (0 : Int64) else (1 : Int64)), .long v27] by
        refine g_if_eq X 369 dL_law_362 (by decide) (fun c28 => ?_) (fun c28 => ?_)
        · (try simp only [if_pos c28] at K)
          refine g_lconst (v := (0 : Int64)) X dL_law_369 (by decide) ?_
          refine G.drop [true, true, true, true, true, false, false, false] rfl ?_
          first | exact K | (simp only [if_pos c28]; exact K)
        · (try simp only [if_neg c28] at K)
          refine g_lconst (v := (1 : Int64)) X dL_law_365 (by decide) ?_
          refine g_goto X 370 dL_law_366 (by decide) ?_
          refine G.drop [true, true, true, true, true, false, false, false] rfl ?_
          first | exact K | (simp only [if_neg c28]; exact K)
      refine g_lcmp X dL_law_370 ?_
      refine g_if_eq X 376 dL_law_371 (by decide) (fun c29 => ?_) (fun c29 => ?_)
      · have hF := (if_pos c29).symm.trans hF
        refine g_goto X 3162 dL_law_376 (by decide) ?_
        refine g_iinc (v := (x4_8 + (5 : Int32))) (L' := [some (va_rf a1), some (va_rf k1_8), some (va_rf k2_8), some (va_rf k3_8), some (.int (x4_8 + (5 : Int32))), none, none, none]) X dL_law_3162 (Nat.le_of_ble_eq_true rfl) rfl rfl (by first | rfl | simp [stL, rm1, clr2, cat_rf, cat_i, cat_j, cat_f, cat_d]) ?_
        refine g_goto X 23 dL_law_3165 (by decide) ?_
        cases hF
        exact hgo _ rfl
      · have hF := (if_neg c29).symm.trans hF
        cases hF
  · have hF := (if_neg c25).symm.trans hF
    cases hF
def F_L_law_A379 (a1 : Option Nat) (k1_8 : Option Nat) (k2_8 : Option Nat) (k3_8 : Option Nat) (x4_8 : Int32) (h_8 : HH) : Option ((Int32 × HH) ⊕ HH) :=
  Option.bind (aldI h_8 0 a1 (x4_8 + (1 : Int32))) fun v30 =>
  Option.bind (aldI h_8 0 a1 (x4_8 + (2 : Int32))) fun v31 =>
  b2 (F_X0_forget k1_8 v30 v31 k3_8 h_8) fun v33 h32 =>
  Option.bind (aldI h32 0 a1 (x4_8 + (1 : Int32))) fun v34 =>
  Option.bind (aldI h32 0 a1 (x4_8 + (2 : Int32))) fun v35 =>
  Option.bind (isO h32 1 k2_8) fun ob36 =>
  b2 (F_X4_forget ob36 v34 v35 h32) fun v38 h37 =>
  Option.bind (isO h37 1 k2_8) fun ob39 =>
  Option.bind (F_X4_thrown ob39 h37) fun v40 =>
  if v40 = v33 then (
    if v33 = 0 then (
      Option.bind (aldJ h37 4 k3_8 (0 : Int32)) fun v43 =>
      if (lg_cmp v43 (if v38 = 0 then (0 : Int64) else (1 : Int64))) = 0 then (
        some (.inl ((x4_8 + (5 : Int32)), h37))
      ) else (
        none
      )
    ) else (
      some (.inl ((x4_8 + (5 : Int32)), h37))
    )
  ) else (
    none
  )
set_option maxHeartbeats 4000000 in
theorem w_L_law_A379 {p : Program} {l : Launch} {e : Env} {R : Room} {s : State} {m : MethodId} {args : Array Value} {below : List Frame} {meth : Method} {c : Code} {Q : State → Prop} {D : va_G} {dA : Nat → ClassId} {h0 : HH} (hl : l.stackTraces = false) (X : FX p l s m args meth R c cL_law 8 "FerryClocksLaw" D dA h0 []) (hRf : R.frames = 8192) (hRl : R.locals = 100000) (a1 : Option Nat) (k1_8 : Option Nat) (k2_8 : Option Nat) (k3_8 : Option Nat) (x4_8 : Int32) (h_8 : HH) (o : (Int32 × HH) ⊕ HH) : F_L_law_A379 a1 k1_8 k2_8 k3_8 x4_8 h_8 = some o → (∀ y, o = .inl y → (fun z => G p l e R s m args below meth c Q D dA h0 8 z.2 23 [some (va_rf a1), some (va_rf k1_8), some (va_rf k2_8), some (va_rf k3_8), some (.int z.1), none, none, none] []) y) → (∀ r, o = .inr r → (fun z => G p l e R s m args below meth c Q D dA h0 8 z 3168 [none, none, none, none, none, none, none, none] []) r) → G p l e R s m args below meth c Q D dA h0 8 h_8 379 [some (va_rf a1), some (va_rf k1_8), some (va_rf k2_8), some (va_rf k3_8), some (.int x4_8), none, none, none] [] := by
  intro hF hgo hr
  unfold F_L_law_A379 at hF
  refine g_aload_n X dL_law_379 rfl rfl ?_
  refine g_aload_n X dL_law_380 rfl rfl ?_
  refine g_iload X dL_law_381 rfl ?_
  refine g_iconst (v := (1 : Int32)) X dL_law_383 (by decide) ?_
  refine g_iadd X dL_law_384 ?_
  obtain ⟨v30, ev30, hF⟩ := bnd hF
  refine g_iald X ev30 dL_law_385 ?_
  refine g_aload_n X dL_law_386 rfl rfl ?_
  refine g_iload X dL_law_387 rfl ?_
  refine g_iconst (v := (2 : Int32)) X dL_law_389 (by decide) ?_
  refine g_iadd X dL_law_390 ?_
  obtain ⟨v31, ev31, hF⟩ := bnd hF
  refine g_iald X ev31 dL_law_391 ?_
  refine g_aload_n X dL_law_392 rfl rfl ?_
  obtain ⟨v33, h32, eh32, hF⟩ := b2_some hF
  refine g_callS X (w_X0_forget l hl D dA h_8 k1_8 v30 v31 k3_8 v33 h32 eh32) q1140 q1141 q91 q1142 okn_X0_forget ⟨by rw [hRf]; exact Nat.le_of_ble_eq_true rfl, by rw [hRl]; exact Nat.le_of_ble_eq_true rfl⟩ (As := [va_rf k1_8, .int v30, .int v31, va_rf k3_8]) (rest := []) rfl (by first | exact Nat.le_of_ble_eq_true rfl | simp [cat_rf, cat_i, cat_j, cat_f, cat_d]) dL_law_393 (ac_v ?_)
  refine g_istore (L' := [some (va_rf a1), some (va_rf k1_8), some (va_rf k2_8), some (va_rf k3_8), some (.int x4_8), some (.int v33), none, none]) X dL_law_396 (Nat.le_of_ble_eq_true rfl) (by first | rfl | simp [stL, rm1, clr2, cat_rf, cat_i, cat_j, cat_f, cat_d]) ?_
  refine g_aload_n X dL_law_398 rfl rfl ?_
  refine g_aload_n X dL_law_399 rfl rfl ?_
  refine g_iload X dL_law_400 rfl ?_
  refine g_iconst (v := (1 : Int32)) X dL_law_402 (by decide) ?_
  refine g_iadd X dL_law_403 ?_
  obtain ⟨v34, ev34, hF⟩ := bnd hF
  refine g_iald X ev34 dL_law_404 ?_
  refine g_aload_n X dL_law_405 rfl rfl ?_
  refine g_iload X dL_law_406 rfl ?_
  refine g_iconst (v := (2 : Int32)) X dL_law_408 (by decide) ?_
  refine g_iadd X dL_law_409 ?_
  obtain ⟨v35, ev35, hF⟩ := bnd hF
  refine g_iald X ev35 dL_law_410 ?_
  obtain ⟨ob36, eob36, hF⟩ := bnd hF
  obtain ⟨v38, h37, eh37, hF⟩ := b2_some hF
  refine g_callV X eob36 rfl rfl (w_X4_forget l hl D dA h32 ob36 v34 v35 v38 h37 eh37) q1908 q1909 q1910 q103 q1911 okn_X4_forget ⟨by rw [hRf]; exact Nat.le_of_ble_eq_true rfl, by rw [hRl]; exact Nat.le_of_ble_eq_true rfl⟩ (As := [.int v34, .int v35]) (rest := []) rfl (by first | exact Nat.le_of_ble_eq_true rfl | simp [cat_rf, cat_i, cat_j, cat_f, cat_d]) dL_law_411 (ac_v ?_)
  refine g_istore (L' := [some (va_rf a1), some (va_rf k1_8), some (va_rf k2_8), some (va_rf k3_8), some (.int x4_8), some (.int v33), some (.int v38), none]) X dL_law_414 (Nat.le_of_ble_eq_true rfl) (by first | rfl | simp [stL, rm1, clr2, cat_rf, cat_i, cat_j, cat_f, cat_d]) ?_
  refine g_aload_n X dL_law_416 rfl rfl ?_
  obtain ⟨ob39, eob39, hF⟩ := bnd hF
  obtain ⟨v40, ev40, hF⟩ := bnd hF
  refine g_callV X eob39 rfl rfl (w_X4_thrown l hl D dA h37 ob39  v40 ev40) q1851 q1852 q1853 q103 q1854 okn_X4_thrown ⟨by rw [hRf]; exact Nat.le_of_ble_eq_true rfl, by rw [hRl]; exact Nat.le_of_ble_eq_true rfl⟩ (As := []) (rest := []) rfl (by first | exact Nat.le_of_ble_eq_true rfl | simp [cat_rf, cat_i, cat_j, cat_f, cat_d]) dL_law_417 (ac_v ?_)
  refine g_iload X dL_law_420 rfl ?_
  refine g_icmp_eq X 427 dL_law_422 (by decide) (fun c41 => ?_) (fun c41 => ?_)
  · have hF := (if_pos c41).symm.trans hF
    refine g_iload X dL_law_427 rfl ?_
    refine g_if_ne X 451 dL_law_429 (by decide) (fun c42 => ?_) (fun c42 => ?_)
    · have hF := (if_neg c42).symm.trans hF
      refine g_goto X 3162 dL_law_451 (by decide) ?_
      refine g_iinc (v := (x4_8 + (5 : Int32))) (L' := [some (va_rf a1), some (va_rf k1_8), some (va_rf k2_8), some (va_rf k3_8), some (.int (x4_8 + (5 : Int32))), some (.int v33), some (.int v38), none]) X dL_law_3162 (Nat.le_of_ble_eq_true rfl) rfl rfl (by first | rfl | simp [stL, rm1, clr2, cat_rf, cat_i, cat_j, cat_f, cat_d]) ?_
      refine g_goto X 23 dL_law_3165 (by decide) ?_
      refine G.drop [true, true, true, true, true, false, false, false] rfl ?_
      cases hF
      exact hgo _ rfl
    · have hF := (if_pos c42).symm.trans hF
      refine g_aload_n X dL_law_432 rfl rfl ?_
      refine g_iconst (v := (0 : Int32)) X dL_law_433 (by decide) ?_
      obtain ⟨v43, ev43, hF⟩ := bnd hF
      refine g_lald X ev43 dL_law_434 ?_
      refine g_iload X dL_law_435 rfl ?_
      suffices K : G p l e R s m args below meth c Q D dA h0 8 h37 445 [some (va_rf a1), some (va_rf k1_8), some (va_rf k2_8), some (va_rf k3_8), some (.int x4_8), none, none, none] [.long (if v38 = 0 then (0 : Int64) else (1 : Int64)), .long v43] by
        refine g_if_eq X 444 dL_law_437 (by decide) (fun c44 => ?_) (fun c44 => ?_)
        · (try simp only [if_pos c44] at K)
          refine g_lconst (v := (0 : Int64)) X dL_law_444 (by decide) ?_
          refine G.drop [true, true, true, true, true, false, false, false] rfl ?_
          first | exact K | (simp only [if_pos c44]; exact K)
        · (try simp only [if_neg c44] at K)
          refine g_lconst (v := (1 : Int64)) X dL_law_440 (by decide) ?_
          refine g_goto X 445 dL_law_441 (by decide) ?_
          refine G.drop [true, true, true, true, true, false, false, false] rfl ?_
          first | exact K | (simp only [if_neg c44]; exact K)
      refine g_lcmp X dL_law_445 ?_
      refine g_if_eq X 451 dL_law_446 (by decide) (fun c45 => ?_) (fun c45 => ?_)
      · have hF := (if_pos c45).symm.trans hF
        refine g_goto X 3162 dL_law_451 (by decide) ?_
        refine g_iinc (v := (x4_8 + (5 : Int32))) (L' := [some (va_rf a1), some (va_rf k1_8), some (va_rf k2_8), some (va_rf k3_8), some (.int (x4_8 + (5 : Int32))), none, none, none]) X dL_law_3162 (Nat.le_of_ble_eq_true rfl) rfl rfl (by first | rfl | simp [stL, rm1, clr2, cat_rf, cat_i, cat_j, cat_f, cat_d]) ?_
        refine g_goto X 23 dL_law_3165 (by decide) ?_
        cases hF
        exact hgo _ rfl
      · have hF := (if_neg c45).symm.trans hF
        cases hF
  · have hF := (if_neg c41).symm.trans hF
    cases hF
def F_L_law_A454 (a1 : Option Nat) (k1_8 : Option Nat) (k2_8 : Option Nat) (k3_8 : Option Nat) (x4_8 : Int32) (h_8 : HH) : Option ((Int32 × HH) ⊕ HH) :=
  Option.bind (isO h_8 0 k1_8) fun ob46 =>
  thr (F_X1_forgetAll ob46 h_8) (fun q49 h47 =>
    none
  ) (fun v48 h47 =>
    Option.bind (isO h47 1 k2_8) fun ob51 =>
    b2 (F_X4_forgetAll ob51 h47) fun v53 h52 =>
    if v48 = v53 then (
      some (.inl ((x4_8 + (5 : Int32)), h52))
    ) else (
      none
    )
  )
set_option maxHeartbeats 4000000 in
theorem w_L_law_A454 {p : Program} {l : Launch} {e : Env} {R : Room} {s : State} {m : MethodId} {args : Array Value} {below : List Frame} {meth : Method} {c : Code} {Q : State → Prop} {D : va_G} {dA : Nat → ClassId} {h0 : HH} (hl : l.stackTraces = false) (X : FX p l s m args meth R c cL_law 8 "FerryClocksLaw" D dA h0 []) (hRf : R.frames = 8192) (hRl : R.locals = 100000) (a1 : Option Nat) (k1_8 : Option Nat) (k2_8 : Option Nat) (k3_8 : Option Nat) (x4_8 : Int32) (h_8 : HH) (o : (Int32 × HH) ⊕ HH) : F_L_law_A454 a1 k1_8 k2_8 k3_8 x4_8 h_8 = some o → (∀ y, o = .inl y → (fun z => G p l e R s m args below meth c Q D dA h0 8 z.2 23 [some (va_rf a1), some (va_rf k1_8), some (va_rf k2_8), some (va_rf k3_8), some (.int z.1), none, none, none] []) y) → (∀ r, o = .inr r → (fun z => G p l e R s m args below meth c Q D dA h0 8 z 3168 [none, none, none, none, none, none, none, none] []) r) → G p l e R s m args below meth c Q D dA h0 8 h_8 454 [some (va_rf a1), some (va_rf k1_8), some (va_rf k2_8), some (va_rf k3_8), some (.int x4_8), none, none, none] [] := by
  intro hF hgo hr
  unfold F_L_law_A454 at hF
  refine g_aload_n X dL_law_454 rfl rfl ?_
  obtain ⟨ob46, eob46, hF⟩ := bnd hF
  rcases thr_some hF with ⟨q49, h47, e50, hF⟩ | ⟨v48, h47, e50, hF⟩
  · refine g_callV X eob46 rfl rfl (w_X1_forgetAll l hl D dA h_8 ob46  (.inl q49) h47 e50) q269 q270 q271 q92 q272 okn_X1_forgetAll ⟨by rw [hRf]; exact Nat.le_of_ble_eq_true rfl, by rw [hRl]; exact Nat.le_of_ble_eq_true rfl⟩ (As := []) (rest := []) rfl (by first | exact Nat.le_of_ble_eq_true rfl | simp [cat_rf, cat_i, cat_j, cat_f, cat_d]) dL_law_455 (ac_x ?_)
    cases hF
  · refine g_callV X eob46 rfl rfl (w_X1_forgetAll l hl D dA h_8 ob46  (.inr v48) h47 e50) q269 q270 q271 q92 q272 okn_X1_forgetAll ⟨by rw [hRf]; exact Nat.le_of_ble_eq_true rfl, by rw [hRl]; exact Nat.le_of_ble_eq_true rfl⟩ (As := []) (rest := []) rfl (by first | exact Nat.le_of_ble_eq_true rfl | simp [cat_rf, cat_i, cat_j, cat_f, cat_d]) dL_law_455 (ac_v ?_)
    refine g_aload_n X dL_law_458 rfl rfl ?_
    obtain ⟨ob51, eob51, hF⟩ := bnd hF
    obtain ⟨v53, h52, eh52, hF⟩ := b2_some hF
    refine g_callV X eob51 rfl rfl (w_X4_forgetAll l hl D dA h47 ob51  v53 h52 eh52) q1916 q1917 q1918 q103 q1919 okn_X4_forgetAll ⟨by rw [hRf]; exact Nat.le_of_ble_eq_true rfl, by rw [hRl]; exact Nat.le_of_ble_eq_true rfl⟩ (As := []) (rest := [.int v48]) rfl (by first | exact Nat.le_of_ble_eq_true rfl | simp [cat_rf, cat_i, cat_j, cat_f, cat_d]) dL_law_459 (ac_v ?_)
    refine g_icmp_eq X 3162 dL_law_462 (by decide) (fun c54 => ?_) (fun c54 => ?_)
    · have hF := (if_pos c54).symm.trans hF
      refine g_iinc (v := (x4_8 + (5 : Int32))) (L' := [some (va_rf a1), some (va_rf k1_8), some (va_rf k2_8), some (va_rf k3_8), some (.int (x4_8 + (5 : Int32))), none, none, none]) X dL_law_3162 (Nat.le_of_ble_eq_true rfl) rfl rfl (by first | rfl | simp [stL, rm1, clr2, cat_rf, cat_i, cat_j, cat_f, cat_d]) ?_
      refine g_goto X 23 dL_law_3165 (by decide) ?_
      cases hF
      exact hgo _ rfl
    · have hF := (if_neg c54).symm.trans hF
      cases hF
def F_L_law_A467 (a1 : Option Nat) (k1_8 : Option Nat) (k2_8 : Option Nat) (k3_8 : Option Nat) (x4_8 : Int32) (h_8 : HH) : Option ((Int32 × HH) ⊕ HH) :=
  b2 (F_X0_tighten k1_8 k3_8 h_8) fun v56 h55 =>
  Option.bind (isO h55 1 k2_8) fun ob57 =>
  b2 (F_X4_tighten ob57 h55) fun v59 h58 =>
  Option.bind (isO h58 1 k2_8) fun ob60 =>
  Option.bind (F_X4_thrown ob60 h58) fun v61 =>
  if v61 = v56 then (
    if v56 = 0 then (
      Option.bind (aldJ h58 4 k3_8 (0 : Int32)) fun v64 =>
      if (lg_cmp v64 (v59.toInt64)) = 0 then (
        some (.inl ((x4_8 + (5 : Int32)), h58))
      ) else (
        none
      )
    ) else (
      some (.inl ((x4_8 + (5 : Int32)), h58))
    )
  ) else (
    none
  )
set_option maxHeartbeats 4000000 in
theorem w_L_law_A467 {p : Program} {l : Launch} {e : Env} {R : Room} {s : State} {m : MethodId} {args : Array Value} {below : List Frame} {meth : Method} {c : Code} {Q : State → Prop} {D : va_G} {dA : Nat → ClassId} {h0 : HH} (hl : l.stackTraces = false) (X : FX p l s m args meth R c cL_law 8 "FerryClocksLaw" D dA h0 []) (hRf : R.frames = 8192) (hRl : R.locals = 100000) (a1 : Option Nat) (k1_8 : Option Nat) (k2_8 : Option Nat) (k3_8 : Option Nat) (x4_8 : Int32) (h_8 : HH) (o : (Int32 × HH) ⊕ HH) : F_L_law_A467 a1 k1_8 k2_8 k3_8 x4_8 h_8 = some o → (∀ y, o = .inl y → (fun z => G p l e R s m args below meth c Q D dA h0 8 z.2 23 [some (va_rf a1), some (va_rf k1_8), some (va_rf k2_8), some (va_rf k3_8), some (.int z.1), none, none, none] []) y) → (∀ r, o = .inr r → (fun z => G p l e R s m args below meth c Q D dA h0 8 z 3168 [none, none, none, none, none, none, none, none] []) r) → G p l e R s m args below meth c Q D dA h0 8 h_8 467 [some (va_rf a1), some (va_rf k1_8), some (va_rf k2_8), some (va_rf k3_8), some (.int x4_8), none, none, none] [] := by
  intro hF hgo hr
  unfold F_L_law_A467 at hF
  refine g_aload_n X dL_law_467 rfl rfl ?_
  refine g_aload_n X dL_law_468 rfl rfl ?_
  obtain ⟨v56, h55, eh55, hF⟩ := b2_some hF
  refine g_callS X (w_X0_tighten l hl D dA h_8 k1_8 k3_8 v56 h55 eh55) q1147 q1148 q91 q1149 okn_X0_tighten ⟨by rw [hRf]; exact Nat.le_of_ble_eq_true rfl, by rw [hRl]; exact Nat.le_of_ble_eq_true rfl⟩ (As := [va_rf k1_8, va_rf k3_8]) (rest := []) rfl (by first | exact Nat.le_of_ble_eq_true rfl | simp [cat_rf, cat_i, cat_j, cat_f, cat_d]) dL_law_469 (ac_v ?_)
  refine g_istore (L' := [some (va_rf a1), some (va_rf k1_8), some (va_rf k2_8), some (va_rf k3_8), some (.int x4_8), some (.int v56), none, none]) X dL_law_472 (Nat.le_of_ble_eq_true rfl) (by first | rfl | simp [stL, rm1, clr2, cat_rf, cat_i, cat_j, cat_f, cat_d]) ?_
  refine g_aload_n X dL_law_474 rfl rfl ?_
  obtain ⟨ob57, eob57, hF⟩ := bnd hF
  obtain ⟨v59, h58, eh58, hF⟩ := b2_some hF
  refine g_callV X eob57 rfl rfl (w_X4_tighten l hl D dA h55 ob57  v59 h58 eh58) q1924 q1925 q1926 q103 q1927 okn_X4_tighten ⟨by rw [hRf]; exact Nat.le_of_ble_eq_true rfl, by rw [hRl]; exact Nat.le_of_ble_eq_true rfl⟩ (As := []) (rest := []) rfl (by first | exact Nat.le_of_ble_eq_true rfl | simp [cat_rf, cat_i, cat_j, cat_f, cat_d]) dL_law_475 (ac_v ?_)
  refine g_istore (L' := [some (va_rf a1), some (va_rf k1_8), some (va_rf k2_8), some (va_rf k3_8), some (.int x4_8), some (.int v56), some (.int v59), none]) X dL_law_478 (Nat.le_of_ble_eq_true rfl) (by first | rfl | simp [stL, rm1, clr2, cat_rf, cat_i, cat_j, cat_f, cat_d]) ?_
  refine g_aload_n X dL_law_480 rfl rfl ?_
  obtain ⟨ob60, eob60, hF⟩ := bnd hF
  obtain ⟨v61, ev61, hF⟩ := bnd hF
  refine g_callV X eob60 rfl rfl (w_X4_thrown l hl D dA h58 ob60  v61 ev61) q1851 q1852 q1853 q103 q1854 okn_X4_thrown ⟨by rw [hRf]; exact Nat.le_of_ble_eq_true rfl, by rw [hRl]; exact Nat.le_of_ble_eq_true rfl⟩ (As := []) (rest := []) rfl (by first | exact Nat.le_of_ble_eq_true rfl | simp [cat_rf, cat_i, cat_j, cat_f, cat_d]) dL_law_481 (ac_v ?_)
  refine g_iload X dL_law_484 rfl ?_
  refine g_icmp_eq X 491 dL_law_486 (by decide) (fun c62 => ?_) (fun c62 => ?_)
  · have hF := (if_pos c62).symm.trans hF
    refine g_iload X dL_law_491 rfl ?_
    refine g_if_ne X 508 dL_law_493 (by decide) (fun c63 => ?_) (fun c63 => ?_)
    · have hF := (if_neg c63).symm.trans hF
      refine g_goto X 3162 dL_law_508 (by decide) ?_
      refine g_iinc (v := (x4_8 + (5 : Int32))) (L' := [some (va_rf a1), some (va_rf k1_8), some (va_rf k2_8), some (va_rf k3_8), some (.int (x4_8 + (5 : Int32))), some (.int v56), some (.int v59), none]) X dL_law_3162 (Nat.le_of_ble_eq_true rfl) rfl rfl (by first | rfl | simp [stL, rm1, clr2, cat_rf, cat_i, cat_j, cat_f, cat_d]) ?_
      refine g_goto X 23 dL_law_3165 (by decide) ?_
      refine G.drop [true, true, true, true, true, false, false, false] rfl ?_
      cases hF
      exact hgo _ rfl
    · have hF := (if_pos c63).symm.trans hF
      refine g_aload_n X dL_law_496 rfl rfl ?_
      refine g_iconst (v := (0 : Int32)) X dL_law_497 (by decide) ?_
      obtain ⟨v64, ev64, hF⟩ := bnd hF
      refine g_lald X ev64 dL_law_498 ?_
      refine g_iload X dL_law_499 rfl ?_
      refine g_i2l X dL_law_501 ?_
      refine g_lcmp X dL_law_502 ?_
      refine g_if_eq X 508 dL_law_503 (by decide) (fun c65 => ?_) (fun c65 => ?_)
      · have hF := (if_pos c65).symm.trans hF
        refine g_goto X 3162 dL_law_508 (by decide) ?_
        refine g_iinc (v := (x4_8 + (5 : Int32))) (L' := [some (va_rf a1), some (va_rf k1_8), some (va_rf k2_8), some (va_rf k3_8), some (.int (x4_8 + (5 : Int32))), some (.int v56), some (.int v59), none]) X dL_law_3162 (Nat.le_of_ble_eq_true rfl) rfl rfl (by first | rfl | simp [stL, rm1, clr2, cat_rf, cat_i, cat_j, cat_f, cat_d]) ?_
        refine g_goto X 23 dL_law_3165 (by decide) ?_
        refine G.drop [true, true, true, true, true, false, false, false] rfl ?_
        cases hF
        exact hgo _ rfl
      · have hF := (if_neg c65).symm.trans hF
        cases hF
  · have hF := (if_neg c62).symm.trans hF
    cases hF
def F_L_law_A511 (a1 : Option Nat) (k1_8 : Option Nat) (k2_8 : Option Nat) (k3_8 : Option Nat) (x4_8 : Int32) (h_8 : HH) : Option ((Int32 × HH) ⊕ HH) :=
  Option.bind (aldI h_8 0 a1 (x4_8 + (1 : Int32))) fun v66 =>
  Option.bind (aldI h_8 0 a1 (x4_8 + (2 : Int32))) fun v67 =>
  b2 (F_X0_reset k1_8 v66 v67 k3_8 h_8) fun v69 h68 =>
  Option.bind (aldI h68 0 a1 (x4_8 + (1 : Int32))) fun v70 =>
  Option.bind (aldI h68 0 a1 (x4_8 + (2 : Int32))) fun v71 =>
  Option.bind (isO h68 1 k2_8) fun ob72 =>
  b2 (F_X4_reset ob72 v70 v71 h68) fun v74 h73 =>
  Option.bind (isO h73 1 k2_8) fun ob75 =>
  Option.bind (F_X4_thrown ob75 h73) fun v76 =>
  if v76 = v69 then (
    if v69 = 0 then (
      Option.bind (aldJ h73 4 k3_8 (0 : Int32)) fun v79 =>
      if (lg_cmp v79 (v74.toInt64)) = 0 then (
        some (.inl ((x4_8 + (5 : Int32)), h73))
      ) else (
        none
      )
    ) else (
      some (.inl ((x4_8 + (5 : Int32)), h73))
    )
  ) else (
    none
  )
set_option maxHeartbeats 4000000 in
theorem w_L_law_A511 {p : Program} {l : Launch} {e : Env} {R : Room} {s : State} {m : MethodId} {args : Array Value} {below : List Frame} {meth : Method} {c : Code} {Q : State → Prop} {D : va_G} {dA : Nat → ClassId} {h0 : HH} (hl : l.stackTraces = false) (X : FX p l s m args meth R c cL_law 8 "FerryClocksLaw" D dA h0 []) (hRf : R.frames = 8192) (hRl : R.locals = 100000) (a1 : Option Nat) (k1_8 : Option Nat) (k2_8 : Option Nat) (k3_8 : Option Nat) (x4_8 : Int32) (h_8 : HH) (o : (Int32 × HH) ⊕ HH) : F_L_law_A511 a1 k1_8 k2_8 k3_8 x4_8 h_8 = some o → (∀ y, o = .inl y → (fun z => G p l e R s m args below meth c Q D dA h0 8 z.2 23 [some (va_rf a1), some (va_rf k1_8), some (va_rf k2_8), some (va_rf k3_8), some (.int z.1), none, none, none] []) y) → (∀ r, o = .inr r → (fun z => G p l e R s m args below meth c Q D dA h0 8 z 3168 [none, none, none, none, none, none, none, none] []) r) → G p l e R s m args below meth c Q D dA h0 8 h_8 511 [some (va_rf a1), some (va_rf k1_8), some (va_rf k2_8), some (va_rf k3_8), some (.int x4_8), none, none, none] [] := by
  intro hF hgo hr
  unfold F_L_law_A511 at hF
  refine g_aload_n X dL_law_511 rfl rfl ?_
  refine g_aload_n X dL_law_512 rfl rfl ?_
  refine g_iload X dL_law_513 rfl ?_
  refine g_iconst (v := (1 : Int32)) X dL_law_515 (by decide) ?_
  refine g_iadd X dL_law_516 ?_
  obtain ⟨v66, ev66, hF⟩ := bnd hF
  refine g_iald X ev66 dL_law_517 ?_
  refine g_aload_n X dL_law_518 rfl rfl ?_
  refine g_iload X dL_law_519 rfl ?_
  refine g_iconst (v := (2 : Int32)) X dL_law_521 (by decide) ?_
  refine g_iadd X dL_law_522 ?_
  obtain ⟨v67, ev67, hF⟩ := bnd hF
  refine g_iald X ev67 dL_law_523 ?_
  refine g_aload_n X dL_law_524 rfl rfl ?_
  obtain ⟨v69, h68, eh68, hF⟩ := b2_some hF
  refine g_callS X (w_X0_reset l hl D dA h_8 k1_8 v66 v67 k3_8 v69 h68 eh68) q1154 q1155 q91 q1156 okn_X0_reset ⟨by rw [hRf]; exact Nat.le_of_ble_eq_true rfl, by rw [hRl]; exact Nat.le_of_ble_eq_true rfl⟩ (As := [va_rf k1_8, .int v66, .int v67, va_rf k3_8]) (rest := []) rfl (by first | exact Nat.le_of_ble_eq_true rfl | simp [cat_rf, cat_i, cat_j, cat_f, cat_d]) dL_law_525 (ac_v ?_)
  refine g_istore (L' := [some (va_rf a1), some (va_rf k1_8), some (va_rf k2_8), some (va_rf k3_8), some (.int x4_8), some (.int v69), none, none]) X dL_law_528 (Nat.le_of_ble_eq_true rfl) (by first | rfl | simp [stL, rm1, clr2, cat_rf, cat_i, cat_j, cat_f, cat_d]) ?_
  refine g_aload_n X dL_law_530 rfl rfl ?_
  refine g_aload_n X dL_law_531 rfl rfl ?_
  refine g_iload X dL_law_532 rfl ?_
  refine g_iconst (v := (1 : Int32)) X dL_law_534 (by decide) ?_
  refine g_iadd X dL_law_535 ?_
  obtain ⟨v70, ev70, hF⟩ := bnd hF
  refine g_iald X ev70 dL_law_536 ?_
  refine g_aload_n X dL_law_537 rfl rfl ?_
  refine g_iload X dL_law_538 rfl ?_
  refine g_iconst (v := (2 : Int32)) X dL_law_540 (by decide) ?_
  refine g_iadd X dL_law_541 ?_
  obtain ⟨v71, ev71, hF⟩ := bnd hF
  refine g_iald X ev71 dL_law_542 ?_
  obtain ⟨ob72, eob72, hF⟩ := bnd hF
  obtain ⟨v74, h73, eh73, hF⟩ := b2_some hF
  refine g_callV X eob72 rfl rfl (w_X4_reset l hl D dA h68 ob72 v70 v71 v74 h73 eh73) q1940 q1941 q1942 q103 q1943 okn_X4_reset ⟨by rw [hRf]; exact Nat.le_of_ble_eq_true rfl, by rw [hRl]; exact Nat.le_of_ble_eq_true rfl⟩ (As := [.int v70, .int v71]) (rest := []) rfl (by first | exact Nat.le_of_ble_eq_true rfl | simp [cat_rf, cat_i, cat_j, cat_f, cat_d]) dL_law_543 (ac_v ?_)
  refine g_istore (L' := [some (va_rf a1), some (va_rf k1_8), some (va_rf k2_8), some (va_rf k3_8), some (.int x4_8), some (.int v69), some (.int v74), none]) X dL_law_546 (Nat.le_of_ble_eq_true rfl) (by first | rfl | simp [stL, rm1, clr2, cat_rf, cat_i, cat_j, cat_f, cat_d]) ?_
  refine g_aload_n X dL_law_548 rfl rfl ?_
  obtain ⟨ob75, eob75, hF⟩ := bnd hF
  obtain ⟨v76, ev76, hF⟩ := bnd hF
  refine g_callV X eob75 rfl rfl (w_X4_thrown l hl D dA h73 ob75  v76 ev76) q1851 q1852 q1853 q103 q1854 okn_X4_thrown ⟨by rw [hRf]; exact Nat.le_of_ble_eq_true rfl, by rw [hRl]; exact Nat.le_of_ble_eq_true rfl⟩ (As := []) (rest := []) rfl (by first | exact Nat.le_of_ble_eq_true rfl | simp [cat_rf, cat_i, cat_j, cat_f, cat_d]) dL_law_549 (ac_v ?_)
  refine g_iload X dL_law_552 rfl ?_
  refine g_icmp_eq X 559 dL_law_554 (by decide) (fun c77 => ?_) (fun c77 => ?_)
  · have hF := (if_pos c77).symm.trans hF
    refine g_iload X dL_law_559 rfl ?_
    refine g_if_ne X 576 dL_law_561 (by decide) (fun c78 => ?_) (fun c78 => ?_)
    · have hF := (if_neg c78).symm.trans hF
      refine g_goto X 3162 dL_law_576 (by decide) ?_
      refine g_iinc (v := (x4_8 + (5 : Int32))) (L' := [some (va_rf a1), some (va_rf k1_8), some (va_rf k2_8), some (va_rf k3_8), some (.int (x4_8 + (5 : Int32))), some (.int v69), some (.int v74), none]) X dL_law_3162 (Nat.le_of_ble_eq_true rfl) rfl rfl (by first | rfl | simp [stL, rm1, clr2, cat_rf, cat_i, cat_j, cat_f, cat_d]) ?_
      refine g_goto X 23 dL_law_3165 (by decide) ?_
      refine G.drop [true, true, true, true, true, false, false, false] rfl ?_
      cases hF
      exact hgo _ rfl
    · have hF := (if_pos c78).symm.trans hF
      refine g_aload_n X dL_law_564 rfl rfl ?_
      refine g_iconst (v := (0 : Int32)) X dL_law_565 (by decide) ?_
      obtain ⟨v79, ev79, hF⟩ := bnd hF
      refine g_lald X ev79 dL_law_566 ?_
      refine g_iload X dL_law_567 rfl ?_
      refine g_i2l X dL_law_569 ?_
      refine g_lcmp X dL_law_570 ?_
      refine g_if_eq X 576 dL_law_571 (by decide) (fun c80 => ?_) (fun c80 => ?_)
      · have hF := (if_pos c80).symm.trans hF
        refine g_goto X 3162 dL_law_576 (by decide) ?_
        refine g_iinc (v := (x4_8 + (5 : Int32))) (L' := [some (va_rf a1), some (va_rf k1_8), some (va_rf k2_8), some (va_rf k3_8), some (.int (x4_8 + (5 : Int32))), some (.int v69), some (.int v74), none]) X dL_law_3162 (Nat.le_of_ble_eq_true rfl) rfl rfl (by first | rfl | simp [stL, rm1, clr2, cat_rf, cat_i, cat_j, cat_f, cat_d]) ?_
        refine g_goto X 23 dL_law_3165 (by decide) ?_
        refine G.drop [true, true, true, true, true, false, false, false] rfl ?_
        cases hF
        exact hgo _ rfl
      · have hF := (if_neg c80).symm.trans hF
        cases hF
  · have hF := (if_neg c77).symm.trans hF
    cases hF
def F_L_law_A579 (a1 : Option Nat) (k1_8 : Option Nat) (k2_8 : Option Nat) (k3_8 : Option Nat) (x4_8 : Int32) (h_8 : HH) : Option ((Int32 × HH) ⊕ HH) :=
  b2 (F_X0_delay k1_8 k3_8 h_8) fun v82 h81 =>
  Option.bind (isO h81 1 k2_8) fun ob83 =>
  b2 (F_X4_delay ob83 h81) fun v85 h84 =>
  Option.bind (isO h84 1 k2_8) fun ob86 =>
  Option.bind (F_X4_thrown ob86 h84) fun v87 =>
  if v87 = v82 then (
    if v82 = 0 then (
      Option.bind (aldJ h84 4 k3_8 (0 : Int32)) fun v90 =>
      if (lg_cmp v90 (v85.toInt64)) = 0 then (
        some (.inl ((x4_8 + (5 : Int32)), h84))
      ) else (
        none
      )
    ) else (
      some (.inl ((x4_8 + (5 : Int32)), h84))
    )
  ) else (
    none
  )
set_option maxHeartbeats 4000000 in
theorem w_L_law_A579 {p : Program} {l : Launch} {e : Env} {R : Room} {s : State} {m : MethodId} {args : Array Value} {below : List Frame} {meth : Method} {c : Code} {Q : State → Prop} {D : va_G} {dA : Nat → ClassId} {h0 : HH} (hl : l.stackTraces = false) (X : FX p l s m args meth R c cL_law 8 "FerryClocksLaw" D dA h0 []) (hRf : R.frames = 8192) (hRl : R.locals = 100000) (a1 : Option Nat) (k1_8 : Option Nat) (k2_8 : Option Nat) (k3_8 : Option Nat) (x4_8 : Int32) (h_8 : HH) (o : (Int32 × HH) ⊕ HH) : F_L_law_A579 a1 k1_8 k2_8 k3_8 x4_8 h_8 = some o → (∀ y, o = .inl y → (fun z => G p l e R s m args below meth c Q D dA h0 8 z.2 23 [some (va_rf a1), some (va_rf k1_8), some (va_rf k2_8), some (va_rf k3_8), some (.int z.1), none, none, none] []) y) → (∀ r, o = .inr r → (fun z => G p l e R s m args below meth c Q D dA h0 8 z 3168 [none, none, none, none, none, none, none, none] []) r) → G p l e R s m args below meth c Q D dA h0 8 h_8 579 [some (va_rf a1), some (va_rf k1_8), some (va_rf k2_8), some (va_rf k3_8), some (.int x4_8), none, none, none] [] := by
  intro hF hgo hr
  unfold F_L_law_A579 at hF
  refine g_aload_n X dL_law_579 rfl rfl ?_
  refine g_aload_n X dL_law_580 rfl rfl ?_
  obtain ⟨v82, h81, eh81, hF⟩ := b2_some hF
  refine g_callS X (w_X0_delay l hl D dA h_8 k1_8 k3_8 v82 h81 eh81) q1161 q1162 q91 q1163 okn_X0_delay ⟨by rw [hRf]; exact Nat.le_of_ble_eq_true rfl, by rw [hRl]; exact Nat.le_of_ble_eq_true rfl⟩ (As := [va_rf k1_8, va_rf k3_8]) (rest := []) rfl (by first | exact Nat.le_of_ble_eq_true rfl | simp [cat_rf, cat_i, cat_j, cat_f, cat_d]) dL_law_581 (ac_v ?_)
  refine g_istore (L' := [some (va_rf a1), some (va_rf k1_8), some (va_rf k2_8), some (va_rf k3_8), some (.int x4_8), some (.int v82), none, none]) X dL_law_584 (Nat.le_of_ble_eq_true rfl) (by first | rfl | simp [stL, rm1, clr2, cat_rf, cat_i, cat_j, cat_f, cat_d]) ?_
  refine g_aload_n X dL_law_586 rfl rfl ?_
  obtain ⟨ob83, eob83, hF⟩ := bnd hF
  obtain ⟨v85, h84, eh84, hF⟩ := b2_some hF
  refine g_callV X eob83 rfl rfl (w_X4_delay l hl D dA h81 ob83  v85 h84 eh84) q1963 q1964 q1965 q103 q1966 okn_X4_delay ⟨by rw [hRf]; exact Nat.le_of_ble_eq_true rfl, by rw [hRl]; exact Nat.le_of_ble_eq_true rfl⟩ (As := []) (rest := []) rfl (by first | exact Nat.le_of_ble_eq_true rfl | simp [cat_rf, cat_i, cat_j, cat_f, cat_d]) dL_law_587 (ac_v ?_)
  refine g_istore (L' := [some (va_rf a1), some (va_rf k1_8), some (va_rf k2_8), some (va_rf k3_8), some (.int x4_8), some (.int v82), some (.int v85), none]) X dL_law_590 (Nat.le_of_ble_eq_true rfl) (by first | rfl | simp [stL, rm1, clr2, cat_rf, cat_i, cat_j, cat_f, cat_d]) ?_
  refine g_aload_n X dL_law_592 rfl rfl ?_
  obtain ⟨ob86, eob86, hF⟩ := bnd hF
  obtain ⟨v87, ev87, hF⟩ := bnd hF
  refine g_callV X eob86 rfl rfl (w_X4_thrown l hl D dA h84 ob86  v87 ev87) q1851 q1852 q1853 q103 q1854 okn_X4_thrown ⟨by rw [hRf]; exact Nat.le_of_ble_eq_true rfl, by rw [hRl]; exact Nat.le_of_ble_eq_true rfl⟩ (As := []) (rest := []) rfl (by first | exact Nat.le_of_ble_eq_true rfl | simp [cat_rf, cat_i, cat_j, cat_f, cat_d]) dL_law_593 (ac_v ?_)
  refine g_iload X dL_law_596 rfl ?_
  refine g_icmp_eq X 603 dL_law_598 (by decide) (fun c88 => ?_) (fun c88 => ?_)
  · have hF := (if_pos c88).symm.trans hF
    refine g_iload X dL_law_603 rfl ?_
    refine g_if_ne X 620 dL_law_605 (by decide) (fun c89 => ?_) (fun c89 => ?_)
    · have hF := (if_neg c89).symm.trans hF
      refine g_goto X 3162 dL_law_620 (by decide) ?_
      refine g_iinc (v := (x4_8 + (5 : Int32))) (L' := [some (va_rf a1), some (va_rf k1_8), some (va_rf k2_8), some (va_rf k3_8), some (.int (x4_8 + (5 : Int32))), some (.int v82), some (.int v85), none]) X dL_law_3162 (Nat.le_of_ble_eq_true rfl) rfl rfl (by first | rfl | simp [stL, rm1, clr2, cat_rf, cat_i, cat_j, cat_f, cat_d]) ?_
      refine g_goto X 23 dL_law_3165 (by decide) ?_
      refine G.drop [true, true, true, true, true, false, false, false] rfl ?_
      cases hF
      exact hgo _ rfl
    · have hF := (if_pos c89).symm.trans hF
      refine g_aload_n X dL_law_608 rfl rfl ?_
      refine g_iconst (v := (0 : Int32)) X dL_law_609 (by decide) ?_
      obtain ⟨v90, ev90, hF⟩ := bnd hF
      refine g_lald X ev90 dL_law_610 ?_
      refine g_iload X dL_law_611 rfl ?_
      refine g_i2l X dL_law_613 ?_
      refine g_lcmp X dL_law_614 ?_
      refine g_if_eq X 620 dL_law_615 (by decide) (fun c91 => ?_) (fun c91 => ?_)
      · have hF := (if_pos c91).symm.trans hF
        refine g_goto X 3162 dL_law_620 (by decide) ?_
        refine g_iinc (v := (x4_8 + (5 : Int32))) (L' := [some (va_rf a1), some (va_rf k1_8), some (va_rf k2_8), some (va_rf k3_8), some (.int (x4_8 + (5 : Int32))), some (.int v82), some (.int v85), none]) X dL_law_3162 (Nat.le_of_ble_eq_true rfl) rfl rfl (by first | rfl | simp [stL, rm1, clr2, cat_rf, cat_i, cat_j, cat_f, cat_d]) ?_
        refine g_goto X 23 dL_law_3165 (by decide) ?_
        refine G.drop [true, true, true, true, true, false, false, false] rfl ?_
        cases hF
        exact hgo _ rfl
      · have hF := (if_neg c91).symm.trans hF
        cases hF
  · have hF := (if_neg c88).symm.trans hF
    cases hF
def F_L_law_A623 (a1 : Option Nat) (k1_8 : Option Nat) (k2_8 : Option Nat) (k3_8 : Option Nat) (x4_8 : Int32) (h_8 : HH) : Option ((Int32 × HH) ⊕ HH) :=
  b2 (F_X0_goBackInTime k1_8 k3_8 h_8) fun v93 h92 =>
  Option.bind (isO h92 1 k2_8) fun ob94 =>
  b2 (F_X4_goBackInTime ob94 h92) fun v96 h95 =>
  Option.bind (isO h95 1 k2_8) fun ob97 =>
  Option.bind (F_X4_thrown ob97 h95) fun v98 =>
  if v98 = v93 then (
    if v93 = 0 then (
      Option.bind (aldJ h95 4 k3_8 (0 : Int32)) fun v101 =>
      if (lg_cmp v101 (v96.toInt64)) = 0 then (
        some (.inl ((x4_8 + (5 : Int32)), h95))
      ) else (
        none
      )
    ) else (
      some (.inl ((x4_8 + (5 : Int32)), h95))
    )
  ) else (
    none
  )
set_option maxHeartbeats 4000000 in
theorem w_L_law_A623 {p : Program} {l : Launch} {e : Env} {R : Room} {s : State} {m : MethodId} {args : Array Value} {below : List Frame} {meth : Method} {c : Code} {Q : State → Prop} {D : va_G} {dA : Nat → ClassId} {h0 : HH} (hl : l.stackTraces = false) (X : FX p l s m args meth R c cL_law 8 "FerryClocksLaw" D dA h0 []) (hRf : R.frames = 8192) (hRl : R.locals = 100000) (a1 : Option Nat) (k1_8 : Option Nat) (k2_8 : Option Nat) (k3_8 : Option Nat) (x4_8 : Int32) (h_8 : HH) (o : (Int32 × HH) ⊕ HH) : F_L_law_A623 a1 k1_8 k2_8 k3_8 x4_8 h_8 = some o → (∀ y, o = .inl y → (fun z => G p l e R s m args below meth c Q D dA h0 8 z.2 23 [some (va_rf a1), some (va_rf k1_8), some (va_rf k2_8), some (va_rf k3_8), some (.int z.1), none, none, none] []) y) → (∀ r, o = .inr r → (fun z => G p l e R s m args below meth c Q D dA h0 8 z 3168 [none, none, none, none, none, none, none, none] []) r) → G p l e R s m args below meth c Q D dA h0 8 h_8 623 [some (va_rf a1), some (va_rf k1_8), some (va_rf k2_8), some (va_rf k3_8), some (.int x4_8), none, none, none] [] := by
  intro hF hgo hr
  unfold F_L_law_A623 at hF
  refine g_aload_n X dL_law_623 rfl rfl ?_
  refine g_aload_n X dL_law_624 rfl rfl ?_
  obtain ⟨v93, h92, eh92, hF⟩ := b2_some hF
  refine g_callS X (w_X0_goBackInTime l hl D dA h_8 k1_8 k3_8 v93 h92 eh92) q1168 q1169 q91 q1170 okn_X0_goBackInTime ⟨by rw [hRf]; exact Nat.le_of_ble_eq_true rfl, by rw [hRl]; exact Nat.le_of_ble_eq_true rfl⟩ (As := [va_rf k1_8, va_rf k3_8]) (rest := []) rfl (by first | exact Nat.le_of_ble_eq_true rfl | simp [cat_rf, cat_i, cat_j, cat_f, cat_d]) dL_law_625 (ac_v ?_)
  refine g_istore (L' := [some (va_rf a1), some (va_rf k1_8), some (va_rf k2_8), some (va_rf k3_8), some (.int x4_8), some (.int v93), none, none]) X dL_law_628 (Nat.le_of_ble_eq_true rfl) (by first | rfl | simp [stL, rm1, clr2, cat_rf, cat_i, cat_j, cat_f, cat_d]) ?_
  refine g_aload_n X dL_law_630 rfl rfl ?_
  obtain ⟨ob94, eob94, hF⟩ := bnd hF
  obtain ⟨v96, h95, eh95, hF⟩ := b2_some hF
  refine g_callV X eob94 rfl rfl (w_X4_goBackInTime l hl D dA h92 ob94  v96 h95 eh95) q1975 q1976 q1977 q103 q1978 okn_X4_goBackInTime ⟨by rw [hRf]; exact Nat.le_of_ble_eq_true rfl, by rw [hRl]; exact Nat.le_of_ble_eq_true rfl⟩ (As := []) (rest := []) rfl (by first | exact Nat.le_of_ble_eq_true rfl | simp [cat_rf, cat_i, cat_j, cat_f, cat_d]) dL_law_631 (ac_v ?_)
  refine g_istore (L' := [some (va_rf a1), some (va_rf k1_8), some (va_rf k2_8), some (va_rf k3_8), some (.int x4_8), some (.int v93), some (.int v96), none]) X dL_law_634 (Nat.le_of_ble_eq_true rfl) (by first | rfl | simp [stL, rm1, clr2, cat_rf, cat_i, cat_j, cat_f, cat_d]) ?_
  refine g_aload_n X dL_law_636 rfl rfl ?_
  obtain ⟨ob97, eob97, hF⟩ := bnd hF
  obtain ⟨v98, ev98, hF⟩ := bnd hF
  refine g_callV X eob97 rfl rfl (w_X4_thrown l hl D dA h95 ob97  v98 ev98) q1851 q1852 q1853 q103 q1854 okn_X4_thrown ⟨by rw [hRf]; exact Nat.le_of_ble_eq_true rfl, by rw [hRl]; exact Nat.le_of_ble_eq_true rfl⟩ (As := []) (rest := []) rfl (by first | exact Nat.le_of_ble_eq_true rfl | simp [cat_rf, cat_i, cat_j, cat_f, cat_d]) dL_law_637 (ac_v ?_)
  refine g_iload X dL_law_640 rfl ?_
  refine g_icmp_eq X 647 dL_law_642 (by decide) (fun c99 => ?_) (fun c99 => ?_)
  · have hF := (if_pos c99).symm.trans hF
    refine g_iload X dL_law_647 rfl ?_
    refine g_if_ne X 664 dL_law_649 (by decide) (fun c100 => ?_) (fun c100 => ?_)
    · have hF := (if_neg c100).symm.trans hF
      refine g_goto X 3162 dL_law_664 (by decide) ?_
      refine g_iinc (v := (x4_8 + (5 : Int32))) (L' := [some (va_rf a1), some (va_rf k1_8), some (va_rf k2_8), some (va_rf k3_8), some (.int (x4_8 + (5 : Int32))), some (.int v93), some (.int v96), none]) X dL_law_3162 (Nat.le_of_ble_eq_true rfl) rfl rfl (by first | rfl | simp [stL, rm1, clr2, cat_rf, cat_i, cat_j, cat_f, cat_d]) ?_
      refine g_goto X 23 dL_law_3165 (by decide) ?_
      refine G.drop [true, true, true, true, true, false, false, false] rfl ?_
      cases hF
      exact hgo _ rfl
    · have hF := (if_pos c100).symm.trans hF
      refine g_aload_n X dL_law_652 rfl rfl ?_
      refine g_iconst (v := (0 : Int32)) X dL_law_653 (by decide) ?_
      obtain ⟨v101, ev101, hF⟩ := bnd hF
      refine g_lald X ev101 dL_law_654 ?_
      refine g_iload X dL_law_655 rfl ?_
      refine g_i2l X dL_law_657 ?_
      refine g_lcmp X dL_law_658 ?_
      refine g_if_eq X 664 dL_law_659 (by decide) (fun c102 => ?_) (fun c102 => ?_)
      · have hF := (if_pos c102).symm.trans hF
        refine g_goto X 3162 dL_law_664 (by decide) ?_
        refine g_iinc (v := (x4_8 + (5 : Int32))) (L' := [some (va_rf a1), some (va_rf k1_8), some (va_rf k2_8), some (va_rf k3_8), some (.int (x4_8 + (5 : Int32))), some (.int v93), some (.int v96), none]) X dL_law_3162 (Nat.le_of_ble_eq_true rfl) rfl rfl (by first | rfl | simp [stL, rm1, clr2, cat_rf, cat_i, cat_j, cat_f, cat_d]) ?_
        refine g_goto X 23 dL_law_3165 (by decide) ?_
        refine G.drop [true, true, true, true, true, false, false, false] rfl ?_
        cases hF
        exact hgo _ rfl
      · have hF := (if_neg c102).symm.trans hF
        cases hF
  · have hF := (if_neg c99).symm.trans hF
    cases hF
def F_L_law_A667 (a1 : Option Nat) (k1_8 : Option Nat) (k2_8 : Option Nat) (k3_8 : Option Nat) (x4_8 : Int32) (h_8 : HH) : Option ((Int32 × HH) ⊕ HH) :=
  Option.bind (aldI h_8 0 a1 (x4_8 + (1 : Int32))) fun v103 =>
  b2 (F_X0_setFree k1_8 v103 k3_8 h_8) fun v105 h104 =>
  Option.bind (aldI h104 0 a1 (x4_8 + (1 : Int32))) fun v106 =>
  Option.bind (isO h104 1 k2_8) fun ob107 =>
  b2 (F_X4_setFree ob107 v106 h104) fun v109 h108 =>
  Option.bind (isO h108 1 k2_8) fun ob110 =>
  Option.bind (F_X4_thrown ob110 h108) fun v111 =>
  if v111 = v105 then (
    if v105 = 0 then (
      Option.bind (aldJ h108 4 k3_8 (0 : Int32)) fun v114 =>
      if (lg_cmp v114 (v109.toInt64)) = 0 then (
        some (.inl ((x4_8 + (5 : Int32)), h108))
      ) else (
        none
      )
    ) else (
      some (.inl ((x4_8 + (5 : Int32)), h108))
    )
  ) else (
    none
  )
set_option maxHeartbeats 4000000 in
theorem w_L_law_A667 {p : Program} {l : Launch} {e : Env} {R : Room} {s : State} {m : MethodId} {args : Array Value} {below : List Frame} {meth : Method} {c : Code} {Q : State → Prop} {D : va_G} {dA : Nat → ClassId} {h0 : HH} (hl : l.stackTraces = false) (X : FX p l s m args meth R c cL_law 8 "FerryClocksLaw" D dA h0 []) (hRf : R.frames = 8192) (hRl : R.locals = 100000) (a1 : Option Nat) (k1_8 : Option Nat) (k2_8 : Option Nat) (k3_8 : Option Nat) (x4_8 : Int32) (h_8 : HH) (o : (Int32 × HH) ⊕ HH) : F_L_law_A667 a1 k1_8 k2_8 k3_8 x4_8 h_8 = some o → (∀ y, o = .inl y → (fun z => G p l e R s m args below meth c Q D dA h0 8 z.2 23 [some (va_rf a1), some (va_rf k1_8), some (va_rf k2_8), some (va_rf k3_8), some (.int z.1), none, none, none] []) y) → (∀ r, o = .inr r → (fun z => G p l e R s m args below meth c Q D dA h0 8 z 3168 [none, none, none, none, none, none, none, none] []) r) → G p l e R s m args below meth c Q D dA h0 8 h_8 667 [some (va_rf a1), some (va_rf k1_8), some (va_rf k2_8), some (va_rf k3_8), some (.int x4_8), none, none, none] [] := by
  intro hF hgo hr
  unfold F_L_law_A667 at hF
  refine g_aload_n X dL_law_667 rfl rfl ?_
  refine g_aload_n X dL_law_668 rfl rfl ?_
  refine g_iload X dL_law_669 rfl ?_
  refine g_iconst (v := (1 : Int32)) X dL_law_671 (by decide) ?_
  refine g_iadd X dL_law_672 ?_
  obtain ⟨v103, ev103, hF⟩ := bnd hF
  refine g_iald X ev103 dL_law_673 ?_
  refine g_aload_n X dL_law_674 rfl rfl ?_
  obtain ⟨v105, h104, eh104, hF⟩ := b2_some hF
  refine g_callS X (w_X0_setFree l hl D dA h_8 k1_8 v103 k3_8 v105 h104 eh104) q1175 q1176 q91 q1177 okn_X0_setFree ⟨by rw [hRf]; exact Nat.le_of_ble_eq_true rfl, by rw [hRl]; exact Nat.le_of_ble_eq_true rfl⟩ (As := [va_rf k1_8, .int v103, va_rf k3_8]) (rest := []) rfl (by first | exact Nat.le_of_ble_eq_true rfl | simp [cat_rf, cat_i, cat_j, cat_f, cat_d]) dL_law_675 (ac_v ?_)
  refine g_istore (L' := [some (va_rf a1), some (va_rf k1_8), some (va_rf k2_8), some (va_rf k3_8), some (.int x4_8), some (.int v105), none, none]) X dL_law_678 (Nat.le_of_ble_eq_true rfl) (by first | rfl | simp [stL, rm1, clr2, cat_rf, cat_i, cat_j, cat_f, cat_d]) ?_
  refine g_aload_n X dL_law_680 rfl rfl ?_
  refine g_aload_n X dL_law_681 rfl rfl ?_
  refine g_iload X dL_law_682 rfl ?_
  refine g_iconst (v := (1 : Int32)) X dL_law_684 (by decide) ?_
  refine g_iadd X dL_law_685 ?_
  obtain ⟨v106, ev106, hF⟩ := bnd hF
  refine g_iald X ev106 dL_law_686 ?_
  obtain ⟨ob107, eob107, hF⟩ := bnd hF
  obtain ⟨v109, h108, eh108, hF⟩ := b2_some hF
  refine g_callV X eob107 rfl rfl (w_X4_setFree l hl D dA h104 ob107 v106 v109 h108 eh108) q1987 q1988 q1989 q103 q1990 okn_X4_setFree ⟨by rw [hRf]; exact Nat.le_of_ble_eq_true rfl, by rw [hRl]; exact Nat.le_of_ble_eq_true rfl⟩ (As := [.int v106]) (rest := []) rfl (by first | exact Nat.le_of_ble_eq_true rfl | simp [cat_rf, cat_i, cat_j, cat_f, cat_d]) dL_law_687 (ac_v ?_)
  refine g_istore (L' := [some (va_rf a1), some (va_rf k1_8), some (va_rf k2_8), some (va_rf k3_8), some (.int x4_8), some (.int v105), some (.int v109), none]) X dL_law_690 (Nat.le_of_ble_eq_true rfl) (by first | rfl | simp [stL, rm1, clr2, cat_rf, cat_i, cat_j, cat_f, cat_d]) ?_
  refine g_aload_n X dL_law_692 rfl rfl ?_
  obtain ⟨ob110, eob110, hF⟩ := bnd hF
  obtain ⟨v111, ev111, hF⟩ := bnd hF
  refine g_callV X eob110 rfl rfl (w_X4_thrown l hl D dA h108 ob110  v111 ev111) q1851 q1852 q1853 q103 q1854 okn_X4_thrown ⟨by rw [hRf]; exact Nat.le_of_ble_eq_true rfl, by rw [hRl]; exact Nat.le_of_ble_eq_true rfl⟩ (As := []) (rest := []) rfl (by first | exact Nat.le_of_ble_eq_true rfl | simp [cat_rf, cat_i, cat_j, cat_f, cat_d]) dL_law_693 (ac_v ?_)
  refine g_iload X dL_law_696 rfl ?_
  refine g_icmp_eq X 703 dL_law_698 (by decide) (fun c112 => ?_) (fun c112 => ?_)
  · have hF := (if_pos c112).symm.trans hF
    refine g_iload X dL_law_703 rfl ?_
    refine g_if_ne X 720 dL_law_705 (by decide) (fun c113 => ?_) (fun c113 => ?_)
    · have hF := (if_neg c113).symm.trans hF
      refine g_goto X 3162 dL_law_720 (by decide) ?_
      refine g_iinc (v := (x4_8 + (5 : Int32))) (L' := [some (va_rf a1), some (va_rf k1_8), some (va_rf k2_8), some (va_rf k3_8), some (.int (x4_8 + (5 : Int32))), some (.int v105), some (.int v109), none]) X dL_law_3162 (Nat.le_of_ble_eq_true rfl) rfl rfl (by first | rfl | simp [stL, rm1, clr2, cat_rf, cat_i, cat_j, cat_f, cat_d]) ?_
      refine g_goto X 23 dL_law_3165 (by decide) ?_
      refine G.drop [true, true, true, true, true, false, false, false] rfl ?_
      cases hF
      exact hgo _ rfl
    · have hF := (if_pos c113).symm.trans hF
      refine g_aload_n X dL_law_708 rfl rfl ?_
      refine g_iconst (v := (0 : Int32)) X dL_law_709 (by decide) ?_
      obtain ⟨v114, ev114, hF⟩ := bnd hF
      refine g_lald X ev114 dL_law_710 ?_
      refine g_iload X dL_law_711 rfl ?_
      refine g_i2l X dL_law_713 ?_
      refine g_lcmp X dL_law_714 ?_
      refine g_if_eq X 720 dL_law_715 (by decide) (fun c115 => ?_) (fun c115 => ?_)
      · have hF := (if_pos c115).symm.trans hF
        refine g_goto X 3162 dL_law_720 (by decide) ?_
        refine g_iinc (v := (x4_8 + (5 : Int32))) (L' := [some (va_rf a1), some (va_rf k1_8), some (va_rf k2_8), some (va_rf k3_8), some (.int (x4_8 + (5 : Int32))), some (.int v105), some (.int v109), none]) X dL_law_3162 (Nat.le_of_ble_eq_true rfl) rfl rfl (by first | rfl | simp [stL, rm1, clr2, cat_rf, cat_i, cat_j, cat_f, cat_d]) ?_
        refine g_goto X 23 dL_law_3165 (by decide) ?_
        refine G.drop [true, true, true, true, true, false, false, false] rfl ?_
        cases hF
        exact hgo _ rfl
      · have hF := (if_neg c115).symm.trans hF
        cases hF
  · have hF := (if_neg c112).symm.trans hF
    cases hF
def F_L_law_A723 (a1 : Option Nat) (k1_8 : Option Nat) (k2_8 : Option Nat) (k3_8 : Option Nat) (x4_8 : Int32) (h_8 : HH) : Option ((Int32 × HH) ⊕ HH) :=
  Option.bind (aldI h_8 0 a1 (x4_8 + (1 : Int32))) fun v116 =>
  Option.bind (aldI h_8 0 a1 (x4_8 + (2 : Int32))) fun v117 =>
  b2 (F_X0_copyClock k1_8 v116 v117 k3_8 h_8) fun v119 h118 =>
  Option.bind (aldI h118 0 a1 (x4_8 + (1 : Int32))) fun v120 =>
  Option.bind (aldI h118 0 a1 (x4_8 + (2 : Int32))) fun v121 =>
  Option.bind (isO h118 1 k2_8) fun ob122 =>
  b2 (F_X4_copyClock ob122 v120 v121 h118) fun v124 h123 =>
  Option.bind (isO h123 1 k2_8) fun ob125 =>
  Option.bind (F_X4_thrown ob125 h123) fun v126 =>
  if v126 = v119 then (
    if v119 = 0 then (
      Option.bind (aldJ h123 4 k3_8 (0 : Int32)) fun v129 =>
      if (lg_cmp v129 (v124.toInt64)) = 0 then (
        some (.inl ((x4_8 + (5 : Int32)), h123))
      ) else (
        none
      )
    ) else (
      some (.inl ((x4_8 + (5 : Int32)), h123))
    )
  ) else (
    none
  )
set_option maxHeartbeats 4000000 in
theorem w_L_law_A723 {p : Program} {l : Launch} {e : Env} {R : Room} {s : State} {m : MethodId} {args : Array Value} {below : List Frame} {meth : Method} {c : Code} {Q : State → Prop} {D : va_G} {dA : Nat → ClassId} {h0 : HH} (hl : l.stackTraces = false) (X : FX p l s m args meth R c cL_law 8 "FerryClocksLaw" D dA h0 []) (hRf : R.frames = 8192) (hRl : R.locals = 100000) (a1 : Option Nat) (k1_8 : Option Nat) (k2_8 : Option Nat) (k3_8 : Option Nat) (x4_8 : Int32) (h_8 : HH) (o : (Int32 × HH) ⊕ HH) : F_L_law_A723 a1 k1_8 k2_8 k3_8 x4_8 h_8 = some o → (∀ y, o = .inl y → (fun z => G p l e R s m args below meth c Q D dA h0 8 z.2 23 [some (va_rf a1), some (va_rf k1_8), some (va_rf k2_8), some (va_rf k3_8), some (.int z.1), none, none, none] []) y) → (∀ r, o = .inr r → (fun z => G p l e R s m args below meth c Q D dA h0 8 z 3168 [none, none, none, none, none, none, none, none] []) r) → G p l e R s m args below meth c Q D dA h0 8 h_8 723 [some (va_rf a1), some (va_rf k1_8), some (va_rf k2_8), some (va_rf k3_8), some (.int x4_8), none, none, none] [] := by
  intro hF hgo hr
  unfold F_L_law_A723 at hF
  refine g_aload_n X dL_law_723 rfl rfl ?_
  refine g_aload_n X dL_law_724 rfl rfl ?_
  refine g_iload X dL_law_725 rfl ?_
  refine g_iconst (v := (1 : Int32)) X dL_law_727 (by decide) ?_
  refine g_iadd X dL_law_728 ?_
  obtain ⟨v116, ev116, hF⟩ := bnd hF
  refine g_iald X ev116 dL_law_729 ?_
  refine g_aload_n X dL_law_730 rfl rfl ?_
  refine g_iload X dL_law_731 rfl ?_
  refine g_iconst (v := (2 : Int32)) X dL_law_733 (by decide) ?_
  refine g_iadd X dL_law_734 ?_
  obtain ⟨v117, ev117, hF⟩ := bnd hF
  refine g_iald X ev117 dL_law_735 ?_
  refine g_aload_n X dL_law_736 rfl rfl ?_
  obtain ⟨v119, h118, eh118, hF⟩ := b2_some hF
  refine g_callS X (w_X0_copyClock l hl D dA h_8 k1_8 v116 v117 k3_8 v119 h118 eh118) q1182 q1183 q91 q1184 okn_X0_copyClock ⟨by rw [hRf]; exact Nat.le_of_ble_eq_true rfl, by rw [hRl]; exact Nat.le_of_ble_eq_true rfl⟩ (As := [va_rf k1_8, .int v116, .int v117, va_rf k3_8]) (rest := []) rfl (by first | exact Nat.le_of_ble_eq_true rfl | simp [cat_rf, cat_i, cat_j, cat_f, cat_d]) dL_law_737 (ac_v ?_)
  refine g_istore (L' := [some (va_rf a1), some (va_rf k1_8), some (va_rf k2_8), some (va_rf k3_8), some (.int x4_8), some (.int v119), none, none]) X dL_law_740 (Nat.le_of_ble_eq_true rfl) (by first | rfl | simp [stL, rm1, clr2, cat_rf, cat_i, cat_j, cat_f, cat_d]) ?_
  refine g_aload_n X dL_law_742 rfl rfl ?_
  refine g_aload_n X dL_law_743 rfl rfl ?_
  refine g_iload X dL_law_744 rfl ?_
  refine g_iconst (v := (1 : Int32)) X dL_law_746 (by decide) ?_
  refine g_iadd X dL_law_747 ?_
  obtain ⟨v120, ev120, hF⟩ := bnd hF
  refine g_iald X ev120 dL_law_748 ?_
  refine g_aload_n X dL_law_749 rfl rfl ?_
  refine g_iload X dL_law_750 rfl ?_
  refine g_iconst (v := (2 : Int32)) X dL_law_752 (by decide) ?_
  refine g_iadd X dL_law_753 ?_
  obtain ⟨v121, ev121, hF⟩ := bnd hF
  refine g_iald X ev121 dL_law_754 ?_
  obtain ⟨ob122, eob122, hF⟩ := bnd hF
  obtain ⟨v124, h123, eh123, hF⟩ := b2_some hF
  refine g_callV X eob122 rfl rfl (w_X4_copyClock l hl D dA h118 ob122 v120 v121 v124 h123 eh123) q1995 q1996 q1997 q103 q1998 okn_X4_copyClock ⟨by rw [hRf]; exact Nat.le_of_ble_eq_true rfl, by rw [hRl]; exact Nat.le_of_ble_eq_true rfl⟩ (As := [.int v120, .int v121]) (rest := []) rfl (by first | exact Nat.le_of_ble_eq_true rfl | simp [cat_rf, cat_i, cat_j, cat_f, cat_d]) dL_law_755 (ac_v ?_)
  refine g_istore (L' := [some (va_rf a1), some (va_rf k1_8), some (va_rf k2_8), some (va_rf k3_8), some (.int x4_8), some (.int v119), some (.int v124), none]) X dL_law_758 (Nat.le_of_ble_eq_true rfl) (by first | rfl | simp [stL, rm1, clr2, cat_rf, cat_i, cat_j, cat_f, cat_d]) ?_
  refine g_aload_n X dL_law_760 rfl rfl ?_
  obtain ⟨ob125, eob125, hF⟩ := bnd hF
  obtain ⟨v126, ev126, hF⟩ := bnd hF
  refine g_callV X eob125 rfl rfl (w_X4_thrown l hl D dA h123 ob125  v126 ev126) q1851 q1852 q1853 q103 q1854 okn_X4_thrown ⟨by rw [hRf]; exact Nat.le_of_ble_eq_true rfl, by rw [hRl]; exact Nat.le_of_ble_eq_true rfl⟩ (As := []) (rest := []) rfl (by first | exact Nat.le_of_ble_eq_true rfl | simp [cat_rf, cat_i, cat_j, cat_f, cat_d]) dL_law_761 (ac_v ?_)
  refine g_iload X dL_law_764 rfl ?_
  refine g_icmp_eq X 771 dL_law_766 (by decide) (fun c127 => ?_) (fun c127 => ?_)
  · have hF := (if_pos c127).symm.trans hF
    refine g_iload X dL_law_771 rfl ?_
    refine g_if_ne X 788 dL_law_773 (by decide) (fun c128 => ?_) (fun c128 => ?_)
    · have hF := (if_neg c128).symm.trans hF
      refine g_goto X 3162 dL_law_788 (by decide) ?_
      refine g_iinc (v := (x4_8 + (5 : Int32))) (L' := [some (va_rf a1), some (va_rf k1_8), some (va_rf k2_8), some (va_rf k3_8), some (.int (x4_8 + (5 : Int32))), some (.int v119), some (.int v124), none]) X dL_law_3162 (Nat.le_of_ble_eq_true rfl) rfl rfl (by first | rfl | simp [stL, rm1, clr2, cat_rf, cat_i, cat_j, cat_f, cat_d]) ?_
      refine g_goto X 23 dL_law_3165 (by decide) ?_
      refine G.drop [true, true, true, true, true, false, false, false] rfl ?_
      cases hF
      exact hgo _ rfl
    · have hF := (if_pos c128).symm.trans hF
      refine g_aload_n X dL_law_776 rfl rfl ?_
      refine g_iconst (v := (0 : Int32)) X dL_law_777 (by decide) ?_
      obtain ⟨v129, ev129, hF⟩ := bnd hF
      refine g_lald X ev129 dL_law_778 ?_
      refine g_iload X dL_law_779 rfl ?_
      refine g_i2l X dL_law_781 ?_
      refine g_lcmp X dL_law_782 ?_
      refine g_if_eq X 788 dL_law_783 (by decide) (fun c130 => ?_) (fun c130 => ?_)
      · have hF := (if_pos c130).symm.trans hF
        refine g_goto X 3162 dL_law_788 (by decide) ?_
        refine g_iinc (v := (x4_8 + (5 : Int32))) (L' := [some (va_rf a1), some (va_rf k1_8), some (va_rf k2_8), some (va_rf k3_8), some (.int (x4_8 + (5 : Int32))), some (.int v119), some (.int v124), none]) X dL_law_3162 (Nat.le_of_ble_eq_true rfl) rfl rfl (by first | rfl | simp [stL, rm1, clr2, cat_rf, cat_i, cat_j, cat_f, cat_d]) ?_
        refine g_goto X 23 dL_law_3165 (by decide) ?_
        refine G.drop [true, true, true, true, true, false, false, false] rfl ?_
        cases hF
        exact hgo _ rfl
      · have hF := (if_neg c130).symm.trans hF
        cases hF
  · have hF := (if_neg c127).symm.trans hF
    cases hF
def F_L_law_A791 (a1 : Option Nat) (k1_8 : Option Nat) (k2_8 : Option Nat) (k3_8 : Option Nat) (x4_8 : Int32) (h_8 : HH) : Option ((Int32 × HH) ⊕ HH) :=
  Option.bind (aldI h_8 0 a1 (x4_8 + (1 : Int32))) fun v131 =>
  Option.bind (aldI h_8 0 a1 (x4_8 + (2 : Int32))) fun v132 =>
  b2 (F_X0_shift k1_8 v131 v132 k3_8 h_8) fun v134 h133 =>
  Option.bind (aldI h133 0 a1 (x4_8 + (1 : Int32))) fun v135 =>
  Option.bind (aldI h133 0 a1 (x4_8 + (2 : Int32))) fun v136 =>
  Option.bind (isO h133 1 k2_8) fun ob137 =>
  b2 (F_X4_shift ob137 v135 v136 h133) fun v139 h138 =>
  Option.bind (isO h138 1 k2_8) fun ob140 =>
  Option.bind (F_X4_thrown ob140 h138) fun v141 =>
  if v141 = v134 then (
    if v134 = 0 then (
      Option.bind (aldJ h138 4 k3_8 (0 : Int32)) fun v144 =>
      if (lg_cmp v144 (v139.toInt64)) = 0 then (
        some (.inl ((x4_8 + (5 : Int32)), h138))
      ) else (
        none
      )
    ) else (
      some (.inl ((x4_8 + (5 : Int32)), h138))
    )
  ) else (
    none
  )
set_option maxHeartbeats 4000000 in
theorem w_L_law_A791 {p : Program} {l : Launch} {e : Env} {R : Room} {s : State} {m : MethodId} {args : Array Value} {below : List Frame} {meth : Method} {c : Code} {Q : State → Prop} {D : va_G} {dA : Nat → ClassId} {h0 : HH} (hl : l.stackTraces = false) (X : FX p l s m args meth R c cL_law 8 "FerryClocksLaw" D dA h0 []) (hRf : R.frames = 8192) (hRl : R.locals = 100000) (a1 : Option Nat) (k1_8 : Option Nat) (k2_8 : Option Nat) (k3_8 : Option Nat) (x4_8 : Int32) (h_8 : HH) (o : (Int32 × HH) ⊕ HH) : F_L_law_A791 a1 k1_8 k2_8 k3_8 x4_8 h_8 = some o → (∀ y, o = .inl y → (fun z => G p l e R s m args below meth c Q D dA h0 8 z.2 23 [some (va_rf a1), some (va_rf k1_8), some (va_rf k2_8), some (va_rf k3_8), some (.int z.1), none, none, none] []) y) → (∀ r, o = .inr r → (fun z => G p l e R s m args below meth c Q D dA h0 8 z 3168 [none, none, none, none, none, none, none, none] []) r) → G p l e R s m args below meth c Q D dA h0 8 h_8 791 [some (va_rf a1), some (va_rf k1_8), some (va_rf k2_8), some (va_rf k3_8), some (.int x4_8), none, none, none] [] := by
  intro hF hgo hr
  unfold F_L_law_A791 at hF
  refine g_aload_n X dL_law_791 rfl rfl ?_
  refine g_aload_n X dL_law_792 rfl rfl ?_
  refine g_iload X dL_law_793 rfl ?_
  refine g_iconst (v := (1 : Int32)) X dL_law_795 (by decide) ?_
  refine g_iadd X dL_law_796 ?_
  obtain ⟨v131, ev131, hF⟩ := bnd hF
  refine g_iald X ev131 dL_law_797 ?_
  refine g_aload_n X dL_law_798 rfl rfl ?_
  refine g_iload X dL_law_799 rfl ?_
  refine g_iconst (v := (2 : Int32)) X dL_law_801 (by decide) ?_
  refine g_iadd X dL_law_802 ?_
  obtain ⟨v132, ev132, hF⟩ := bnd hF
  refine g_iald X ev132 dL_law_803 ?_
  refine g_aload_n X dL_law_804 rfl rfl ?_
  obtain ⟨v134, h133, eh133, hF⟩ := b2_some hF
  refine g_callS X (w_X0_shift l hl D dA h_8 k1_8 v131 v132 k3_8 v134 h133 eh133) q1189 q1190 q91 q1191 okn_X0_shift ⟨by rw [hRf]; exact Nat.le_of_ble_eq_true rfl, by rw [hRl]; exact Nat.le_of_ble_eq_true rfl⟩ (As := [va_rf k1_8, .int v131, .int v132, va_rf k3_8]) (rest := []) rfl (by first | exact Nat.le_of_ble_eq_true rfl | simp [cat_rf, cat_i, cat_j, cat_f, cat_d]) dL_law_805 (ac_v ?_)
  refine g_istore (L' := [some (va_rf a1), some (va_rf k1_8), some (va_rf k2_8), some (va_rf k3_8), some (.int x4_8), some (.int v134), none, none]) X dL_law_808 (Nat.le_of_ble_eq_true rfl) (by first | rfl | simp [stL, rm1, clr2, cat_rf, cat_i, cat_j, cat_f, cat_d]) ?_
  refine g_aload_n X dL_law_810 rfl rfl ?_
  refine g_aload_n X dL_law_811 rfl rfl ?_
  refine g_iload X dL_law_812 rfl ?_
  refine g_iconst (v := (1 : Int32)) X dL_law_814 (by decide) ?_
  refine g_iadd X dL_law_815 ?_
  obtain ⟨v135, ev135, hF⟩ := bnd hF
  refine g_iald X ev135 dL_law_816 ?_
  refine g_aload_n X dL_law_817 rfl rfl ?_
  refine g_iload X dL_law_818 rfl ?_
  refine g_iconst (v := (2 : Int32)) X dL_law_820 (by decide) ?_
  refine g_iadd X dL_law_821 ?_
  obtain ⟨v136, ev136, hF⟩ := bnd hF
  refine g_iald X ev136 dL_law_822 ?_
  obtain ⟨ob137, eob137, hF⟩ := bnd hF
  obtain ⟨v139, h138, eh138, hF⟩ := b2_some hF
  refine g_callV X eob137 rfl rfl (w_X4_shift l hl D dA h133 ob137 v135 v136 v139 h138 eh138) q2007 q2008 q2009 q103 q2010 okn_X4_shift ⟨by rw [hRf]; exact Nat.le_of_ble_eq_true rfl, by rw [hRl]; exact Nat.le_of_ble_eq_true rfl⟩ (As := [.int v135, .int v136]) (rest := []) rfl (by first | exact Nat.le_of_ble_eq_true rfl | simp [cat_rf, cat_i, cat_j, cat_f, cat_d]) dL_law_823 (ac_v ?_)
  refine g_istore (L' := [some (va_rf a1), some (va_rf k1_8), some (va_rf k2_8), some (va_rf k3_8), some (.int x4_8), some (.int v134), some (.int v139), none]) X dL_law_826 (Nat.le_of_ble_eq_true rfl) (by first | rfl | simp [stL, rm1, clr2, cat_rf, cat_i, cat_j, cat_f, cat_d]) ?_
  refine g_aload_n X dL_law_828 rfl rfl ?_
  obtain ⟨ob140, eob140, hF⟩ := bnd hF
  obtain ⟨v141, ev141, hF⟩ := bnd hF
  refine g_callV X eob140 rfl rfl (w_X4_thrown l hl D dA h138 ob140  v141 ev141) q1851 q1852 q1853 q103 q1854 okn_X4_thrown ⟨by rw [hRf]; exact Nat.le_of_ble_eq_true rfl, by rw [hRl]; exact Nat.le_of_ble_eq_true rfl⟩ (As := []) (rest := []) rfl (by first | exact Nat.le_of_ble_eq_true rfl | simp [cat_rf, cat_i, cat_j, cat_f, cat_d]) dL_law_829 (ac_v ?_)
  refine g_iload X dL_law_832 rfl ?_
  refine g_icmp_eq X 839 dL_law_834 (by decide) (fun c142 => ?_) (fun c142 => ?_)
  · have hF := (if_pos c142).symm.trans hF
    refine g_iload X dL_law_839 rfl ?_
    refine g_if_ne X 856 dL_law_841 (by decide) (fun c143 => ?_) (fun c143 => ?_)
    · have hF := (if_neg c143).symm.trans hF
      refine g_goto X 3162 dL_law_856 (by decide) ?_
      refine g_iinc (v := (x4_8 + (5 : Int32))) (L' := [some (va_rf a1), some (va_rf k1_8), some (va_rf k2_8), some (va_rf k3_8), some (.int (x4_8 + (5 : Int32))), some (.int v134), some (.int v139), none]) X dL_law_3162 (Nat.le_of_ble_eq_true rfl) rfl rfl (by first | rfl | simp [stL, rm1, clr2, cat_rf, cat_i, cat_j, cat_f, cat_d]) ?_
      refine g_goto X 23 dL_law_3165 (by decide) ?_
      refine G.drop [true, true, true, true, true, false, false, false] rfl ?_
      cases hF
      exact hgo _ rfl
    · have hF := (if_pos c143).symm.trans hF
      refine g_aload_n X dL_law_844 rfl rfl ?_
      refine g_iconst (v := (0 : Int32)) X dL_law_845 (by decide) ?_
      obtain ⟨v144, ev144, hF⟩ := bnd hF
      refine g_lald X ev144 dL_law_846 ?_
      refine g_iload X dL_law_847 rfl ?_
      refine g_i2l X dL_law_849 ?_
      refine g_lcmp X dL_law_850 ?_
      refine g_if_eq X 856 dL_law_851 (by decide) (fun c145 => ?_) (fun c145 => ?_)
      · have hF := (if_pos c145).symm.trans hF
        refine g_goto X 3162 dL_law_856 (by decide) ?_
        refine g_iinc (v := (x4_8 + (5 : Int32))) (L' := [some (va_rf a1), some (va_rf k1_8), some (va_rf k2_8), some (va_rf k3_8), some (.int (x4_8 + (5 : Int32))), some (.int v134), some (.int v139), none]) X dL_law_3162 (Nat.le_of_ble_eq_true rfl) rfl rfl (by first | rfl | simp [stL, rm1, clr2, cat_rf, cat_i, cat_j, cat_f, cat_d]) ?_
        refine g_goto X 23 dL_law_3165 (by decide) ?_
        refine G.drop [true, true, true, true, true, false, false, false] rfl ?_
        cases hF
        exact hgo _ rfl
      · have hF := (if_neg c145).symm.trans hF
        cases hF
  · have hF := (if_neg c142).symm.trans hF
    cases hF
def F_L_law_A859 (a1 : Option Nat) (k1_8 : Option Nat) (k2_8 : Option Nat) (k3_8 : Option Nat) (x4_8 : Int32) (h_8 : HH) : Option ((Int32 × HH) ⊕ HH) :=
  Option.bind (aldI h_8 0 a1 (x4_8 + (1 : Int32))) fun v146 =>
  b2 (F_X0_store k1_8 v146 k3_8 h_8) fun v148 h147 =>
  Option.bind (aldI h147 0 a1 (x4_8 + (1 : Int32))) fun v149 =>
  Option.bind (isO h147 1 k2_8) fun ob150 =>
  b2 (F_X4_store ob150 v149 h147) fun v152 h151 =>
  Option.bind (isO h151 1 k2_8) fun ob153 =>
  Option.bind (F_X4_thrown ob153 h151) fun v154 =>
  if v154 = v148 then (
    if v148 = 0 then (
      Option.bind (aldJ h151 4 k3_8 (0 : Int32)) fun v157 =>
      if (lg_cmp v157 (if v152 = 0 then (0 : Int64) else (1 : Int64))) = 0 then (
        some (.inl ((x4_8 + (5 : Int32)), h151))
      ) else (
        none
      )
    ) else (
      some (.inl ((x4_8 + (5 : Int32)), h151))
    )
  ) else (
    none
  )
set_option maxHeartbeats 4000000 in
theorem w_L_law_A859 {p : Program} {l : Launch} {e : Env} {R : Room} {s : State} {m : MethodId} {args : Array Value} {below : List Frame} {meth : Method} {c : Code} {Q : State → Prop} {D : va_G} {dA : Nat → ClassId} {h0 : HH} (hl : l.stackTraces = false) (X : FX p l s m args meth R c cL_law 8 "FerryClocksLaw" D dA h0 []) (hRf : R.frames = 8192) (hRl : R.locals = 100000) (a1 : Option Nat) (k1_8 : Option Nat) (k2_8 : Option Nat) (k3_8 : Option Nat) (x4_8 : Int32) (h_8 : HH) (o : (Int32 × HH) ⊕ HH) : F_L_law_A859 a1 k1_8 k2_8 k3_8 x4_8 h_8 = some o → (∀ y, o = .inl y → (fun z => G p l e R s m args below meth c Q D dA h0 8 z.2 23 [some (va_rf a1), some (va_rf k1_8), some (va_rf k2_8), some (va_rf k3_8), some (.int z.1), none, none, none] []) y) → (∀ r, o = .inr r → (fun z => G p l e R s m args below meth c Q D dA h0 8 z 3168 [none, none, none, none, none, none, none, none] []) r) → G p l e R s m args below meth c Q D dA h0 8 h_8 859 [some (va_rf a1), some (va_rf k1_8), some (va_rf k2_8), some (va_rf k3_8), some (.int x4_8), none, none, none] [] := by
  intro hF hgo hr
  unfold F_L_law_A859 at hF
  refine g_aload_n X dL_law_859 rfl rfl ?_
  refine g_aload_n X dL_law_860 rfl rfl ?_
  refine g_iload X dL_law_861 rfl ?_
  refine g_iconst (v := (1 : Int32)) X dL_law_863 (by decide) ?_
  refine g_iadd X dL_law_864 ?_
  obtain ⟨v146, ev146, hF⟩ := bnd hF
  refine g_iald X ev146 dL_law_865 ?_
  refine g_aload_n X dL_law_866 rfl rfl ?_
  obtain ⟨v148, h147, eh147, hF⟩ := b2_some hF
  refine g_callS X (w_X0_store l hl D dA h_8 k1_8 v146 k3_8 v148 h147 eh147) q1196 q1197 q91 q1198 okn_X0_store ⟨by rw [hRf]; exact Nat.le_of_ble_eq_true rfl, by rw [hRl]; exact Nat.le_of_ble_eq_true rfl⟩ (As := [va_rf k1_8, .int v146, va_rf k3_8]) (rest := []) rfl (by first | exact Nat.le_of_ble_eq_true rfl | simp [cat_rf, cat_i, cat_j, cat_f, cat_d]) dL_law_867 (ac_v ?_)
  refine g_istore (L' := [some (va_rf a1), some (va_rf k1_8), some (va_rf k2_8), some (va_rf k3_8), some (.int x4_8), some (.int v148), none, none]) X dL_law_870 (Nat.le_of_ble_eq_true rfl) (by first | rfl | simp [stL, rm1, clr2, cat_rf, cat_i, cat_j, cat_f, cat_d]) ?_
  refine g_aload_n X dL_law_872 rfl rfl ?_
  refine g_aload_n X dL_law_873 rfl rfl ?_
  refine g_iload X dL_law_874 rfl ?_
  refine g_iconst (v := (1 : Int32)) X dL_law_876 (by decide) ?_
  refine g_iadd X dL_law_877 ?_
  obtain ⟨v149, ev149, hF⟩ := bnd hF
  refine g_iald X ev149 dL_law_878 ?_
  obtain ⟨ob150, eob150, hF⟩ := bnd hF
  obtain ⟨v152, h151, eh151, hF⟩ := b2_some hF
  refine g_callV X eob150 rfl rfl (w_X4_store l hl D dA h147 ob150 v149 v152 h151 eh151) q2015 q2016 q2017 q103 q2018 okn_X4_store ⟨by rw [hRf]; exact Nat.le_of_ble_eq_true rfl, by rw [hRl]; exact Nat.le_of_ble_eq_true rfl⟩ (As := [.int v149]) (rest := []) rfl (by first | exact Nat.le_of_ble_eq_true rfl | simp [cat_rf, cat_i, cat_j, cat_f, cat_d]) dL_law_879 (ac_v ?_)
  refine g_istore (L' := [some (va_rf a1), some (va_rf k1_8), some (va_rf k2_8), some (va_rf k3_8), some (.int x4_8), some (.int v148), some (.int v152), none]) X dL_law_882 (Nat.le_of_ble_eq_true rfl) (by first | rfl | simp [stL, rm1, clr2, cat_rf, cat_i, cat_j, cat_f, cat_d]) ?_
  refine g_aload_n X dL_law_884 rfl rfl ?_
  obtain ⟨ob153, eob153, hF⟩ := bnd hF
  obtain ⟨v154, ev154, hF⟩ := bnd hF
  refine g_callV X eob153 rfl rfl (w_X4_thrown l hl D dA h151 ob153  v154 ev154) q1851 q1852 q1853 q103 q1854 okn_X4_thrown ⟨by rw [hRf]; exact Nat.le_of_ble_eq_true rfl, by rw [hRl]; exact Nat.le_of_ble_eq_true rfl⟩ (As := []) (rest := []) rfl (by first | exact Nat.le_of_ble_eq_true rfl | simp [cat_rf, cat_i, cat_j, cat_f, cat_d]) dL_law_885 (ac_v ?_)
  refine g_iload X dL_law_888 rfl ?_
  refine g_icmp_eq X 895 dL_law_890 (by decide) (fun c155 => ?_) (fun c155 => ?_)
  · have hF := (if_pos c155).symm.trans hF
    refine g_iload X dL_law_895 rfl ?_
    refine g_if_ne X 919 dL_law_897 (by decide) (fun c156 => ?_) (fun c156 => ?_)
    · have hF := (if_neg c156).symm.trans hF
      refine g_goto X 3162 dL_law_919 (by decide) ?_
      refine g_iinc (v := (x4_8 + (5 : Int32))) (L' := [some (va_rf a1), some (va_rf k1_8), some (va_rf k2_8), some (va_rf k3_8), some (.int (x4_8 + (5 : Int32))), some (.int v148), some (.int v152), none]) X dL_law_3162 (Nat.le_of_ble_eq_true rfl) rfl rfl (by first | rfl | simp [stL, rm1, clr2, cat_rf, cat_i, cat_j, cat_f, cat_d]) ?_
      refine g_goto X 23 dL_law_3165 (by decide) ?_
      refine G.drop [true, true, true, true, true, false, false, false] rfl ?_
      cases hF
      exact hgo _ rfl
    · have hF := (if_pos c156).symm.trans hF
      refine g_aload_n X dL_law_900 rfl rfl ?_
      refine g_iconst (v := (0 : Int32)) X dL_law_901 (by decide) ?_
      obtain ⟨v157, ev157, hF⟩ := bnd hF
      refine g_lald X ev157 dL_law_902 ?_
      refine g_iload X dL_law_903 rfl ?_
      suffices K : G p l e R s m args below meth c Q D dA h0 8 h151 913 [some (va_rf a1), some (va_rf k1_8), some (va_rf k2_8), some (va_rf k3_8), some (.int x4_8), none, none, none] [.long (if v152 = 0 then (0 : Int64) else (1 : Int64)), .long v157] by
        refine g_if_eq X 912 dL_law_905 (by decide) (fun c158 => ?_) (fun c158 => ?_)
        · (try simp only [if_pos c158] at K)
          refine g_lconst (v := (0 : Int64)) X dL_law_912 (by decide) ?_
          refine G.drop [true, true, true, true, true, false, false, false] rfl ?_
          first | exact K | (simp only [if_pos c158]; exact K)
        · (try simp only [if_neg c158] at K)
          refine g_lconst (v := (1 : Int64)) X dL_law_908 (by decide) ?_
          refine g_goto X 913 dL_law_909 (by decide) ?_
          refine G.drop [true, true, true, true, true, false, false, false] rfl ?_
          first | exact K | (simp only [if_neg c158]; exact K)
      refine g_lcmp X dL_law_913 ?_
      refine g_if_eq X 919 dL_law_914 (by decide) (fun c159 => ?_) (fun c159 => ?_)
      · have hF := (if_pos c159).symm.trans hF
        refine g_goto X 3162 dL_law_919 (by decide) ?_
        refine g_iinc (v := (x4_8 + (5 : Int32))) (L' := [some (va_rf a1), some (va_rf k1_8), some (va_rf k2_8), some (va_rf k3_8), some (.int (x4_8 + (5 : Int32))), none, none, none]) X dL_law_3162 (Nat.le_of_ble_eq_true rfl) rfl rfl (by first | rfl | simp [stL, rm1, clr2, cat_rf, cat_i, cat_j, cat_f, cat_d]) ?_
        refine g_goto X 23 dL_law_3165 (by decide) ?_
        cases hF
        exact hgo _ rfl
      · have hF := (if_neg c159).symm.trans hF
        cases hF
  · have hF := (if_neg c155).symm.trans hF
    cases hF
def F_L_law_A922 (a1 : Option Nat) (k1_8 : Option Nat) (k2_8 : Option Nat) (k3_8 : Option Nat) (x4_8 : Int32) (h_8 : HH) : Option ((Int32 × HH) ⊕ HH) :=
  Option.bind (aldI h_8 0 a1 (x4_8 + (1 : Int32))) fun v160 =>
  b2 (F_X0_meet k1_8 v160 k3_8 h_8) fun v162 h161 =>
  Option.bind (aldI h161 0 a1 (x4_8 + (1 : Int32))) fun v163 =>
  Option.bind (isO h161 1 k2_8) fun ob164 =>
  b2 (F_X4_meet ob164 v163 h161) fun v166 h165 =>
  Option.bind (isO h165 1 k2_8) fun ob167 =>
  Option.bind (F_X4_thrown ob167 h165) fun v168 =>
  if v168 = v162 then (
    if v162 = 0 then (
      Option.bind (aldJ h165 4 k3_8 (0 : Int32)) fun v171 =>
      if (lg_cmp v171 (v166.toInt64)) = 0 then (
        some (.inl ((x4_8 + (5 : Int32)), h165))
      ) else (
        none
      )
    ) else (
      some (.inl ((x4_8 + (5 : Int32)), h165))
    )
  ) else (
    none
  )
set_option maxHeartbeats 4000000 in
theorem w_L_law_A922 {p : Program} {l : Launch} {e : Env} {R : Room} {s : State} {m : MethodId} {args : Array Value} {below : List Frame} {meth : Method} {c : Code} {Q : State → Prop} {D : va_G} {dA : Nat → ClassId} {h0 : HH} (hl : l.stackTraces = false) (X : FX p l s m args meth R c cL_law 8 "FerryClocksLaw" D dA h0 []) (hRf : R.frames = 8192) (hRl : R.locals = 100000) (a1 : Option Nat) (k1_8 : Option Nat) (k2_8 : Option Nat) (k3_8 : Option Nat) (x4_8 : Int32) (h_8 : HH) (o : (Int32 × HH) ⊕ HH) : F_L_law_A922 a1 k1_8 k2_8 k3_8 x4_8 h_8 = some o → (∀ y, o = .inl y → (fun z => G p l e R s m args below meth c Q D dA h0 8 z.2 23 [some (va_rf a1), some (va_rf k1_8), some (va_rf k2_8), some (va_rf k3_8), some (.int z.1), none, none, none] []) y) → (∀ r, o = .inr r → (fun z => G p l e R s m args below meth c Q D dA h0 8 z 3168 [none, none, none, none, none, none, none, none] []) r) → G p l e R s m args below meth c Q D dA h0 8 h_8 922 [some (va_rf a1), some (va_rf k1_8), some (va_rf k2_8), some (va_rf k3_8), some (.int x4_8), none, none, none] [] := by
  intro hF hgo hr
  unfold F_L_law_A922 at hF
  refine g_aload_n X dL_law_922 rfl rfl ?_
  refine g_aload_n X dL_law_923 rfl rfl ?_
  refine g_iload X dL_law_924 rfl ?_
  refine g_iconst (v := (1 : Int32)) X dL_law_926 (by decide) ?_
  refine g_iadd X dL_law_927 ?_
  obtain ⟨v160, ev160, hF⟩ := bnd hF
  refine g_iald X ev160 dL_law_928 ?_
  refine g_aload_n X dL_law_929 rfl rfl ?_
  obtain ⟨v162, h161, eh161, hF⟩ := b2_some hF
  refine g_callS X (w_X0_meet l hl D dA h_8 k1_8 v160 k3_8 v162 h161 eh161) q1203 q1204 q91 q1205 okn_X0_meet ⟨by rw [hRf]; exact Nat.le_of_ble_eq_true rfl, by rw [hRl]; exact Nat.le_of_ble_eq_true rfl⟩ (As := [va_rf k1_8, .int v160, va_rf k3_8]) (rest := []) rfl (by first | exact Nat.le_of_ble_eq_true rfl | simp [cat_rf, cat_i, cat_j, cat_f, cat_d]) dL_law_930 (ac_v ?_)
  refine g_istore (L' := [some (va_rf a1), some (va_rf k1_8), some (va_rf k2_8), some (va_rf k3_8), some (.int x4_8), some (.int v162), none, none]) X dL_law_933 (Nat.le_of_ble_eq_true rfl) (by first | rfl | simp [stL, rm1, clr2, cat_rf, cat_i, cat_j, cat_f, cat_d]) ?_
  refine g_aload_n X dL_law_935 rfl rfl ?_
  refine g_aload_n X dL_law_936 rfl rfl ?_
  refine g_iload X dL_law_937 rfl ?_
  refine g_iconst (v := (1 : Int32)) X dL_law_939 (by decide) ?_
  refine g_iadd X dL_law_940 ?_
  obtain ⟨v163, ev163, hF⟩ := bnd hF
  refine g_iald X ev163 dL_law_941 ?_
  obtain ⟨ob164, eob164, hF⟩ := bnd hF
  obtain ⟨v166, h165, eh165, hF⟩ := b2_some hF
  refine g_callV X eob164 rfl rfl (w_X4_meet l hl D dA h161 ob164 v163 v166 h165 eh165) q2022 q2023 q2024 q103 q2025 okn_X4_meet ⟨by rw [hRf]; exact Nat.le_of_ble_eq_true rfl, by rw [hRl]; exact Nat.le_of_ble_eq_true rfl⟩ (As := [.int v163]) (rest := []) rfl (by first | exact Nat.le_of_ble_eq_true rfl | simp [cat_rf, cat_i, cat_j, cat_f, cat_d]) dL_law_942 (ac_v ?_)
  refine g_istore (L' := [some (va_rf a1), some (va_rf k1_8), some (va_rf k2_8), some (va_rf k3_8), some (.int x4_8), some (.int v162), some (.int v166), none]) X dL_law_945 (Nat.le_of_ble_eq_true rfl) (by first | rfl | simp [stL, rm1, clr2, cat_rf, cat_i, cat_j, cat_f, cat_d]) ?_
  refine g_aload_n X dL_law_947 rfl rfl ?_
  obtain ⟨ob167, eob167, hF⟩ := bnd hF
  obtain ⟨v168, ev168, hF⟩ := bnd hF
  refine g_callV X eob167 rfl rfl (w_X4_thrown l hl D dA h165 ob167  v168 ev168) q1851 q1852 q1853 q103 q1854 okn_X4_thrown ⟨by rw [hRf]; exact Nat.le_of_ble_eq_true rfl, by rw [hRl]; exact Nat.le_of_ble_eq_true rfl⟩ (As := []) (rest := []) rfl (by first | exact Nat.le_of_ble_eq_true rfl | simp [cat_rf, cat_i, cat_j, cat_f, cat_d]) dL_law_948 (ac_v ?_)
  refine g_iload X dL_law_951 rfl ?_
  refine g_icmp_eq X 958 dL_law_953 (by decide) (fun c169 => ?_) (fun c169 => ?_)
  · have hF := (if_pos c169).symm.trans hF
    refine g_iload X dL_law_958 rfl ?_
    refine g_if_ne X 975 dL_law_960 (by decide) (fun c170 => ?_) (fun c170 => ?_)
    · have hF := (if_neg c170).symm.trans hF
      refine g_goto X 3162 dL_law_975 (by decide) ?_
      refine g_iinc (v := (x4_8 + (5 : Int32))) (L' := [some (va_rf a1), some (va_rf k1_8), some (va_rf k2_8), some (va_rf k3_8), some (.int (x4_8 + (5 : Int32))), some (.int v162), some (.int v166), none]) X dL_law_3162 (Nat.le_of_ble_eq_true rfl) rfl rfl (by first | rfl | simp [stL, rm1, clr2, cat_rf, cat_i, cat_j, cat_f, cat_d]) ?_
      refine g_goto X 23 dL_law_3165 (by decide) ?_
      refine G.drop [true, true, true, true, true, false, false, false] rfl ?_
      cases hF
      exact hgo _ rfl
    · have hF := (if_pos c170).symm.trans hF
      refine g_aload_n X dL_law_963 rfl rfl ?_
      refine g_iconst (v := (0 : Int32)) X dL_law_964 (by decide) ?_
      obtain ⟨v171, ev171, hF⟩ := bnd hF
      refine g_lald X ev171 dL_law_965 ?_
      refine g_iload X dL_law_966 rfl ?_
      refine g_i2l X dL_law_968 ?_
      refine g_lcmp X dL_law_969 ?_
      refine g_if_eq X 975 dL_law_970 (by decide) (fun c172 => ?_) (fun c172 => ?_)
      · have hF := (if_pos c172).symm.trans hF
        refine g_goto X 3162 dL_law_975 (by decide) ?_
        refine g_iinc (v := (x4_8 + (5 : Int32))) (L' := [some (va_rf a1), some (va_rf k1_8), some (va_rf k2_8), some (va_rf k3_8), some (.int (x4_8 + (5 : Int32))), some (.int v162), some (.int v166), none]) X dL_law_3162 (Nat.le_of_ble_eq_true rfl) rfl rfl (by first | rfl | simp [stL, rm1, clr2, cat_rf, cat_i, cat_j, cat_f, cat_d]) ?_
        refine g_goto X 23 dL_law_3165 (by decide) ?_
        refine G.drop [true, true, true, true, true, false, false, false] rfl ?_
        cases hF
        exact hgo _ rfl
      · have hF := (if_neg c172).symm.trans hF
        cases hF
  · have hF := (if_neg c169).symm.trans hF
    cases hF
def F_L_law_A978 (a1 : Option Nat) (k1_8 : Option Nat) (k2_8 : Option Nat) (k3_8 : Option Nat) (x4_8 : Int32) (h_8 : HH) : Option ((Int32 × HH) ⊕ HH) :=
  Option.bind (aldI h_8 0 a1 (x4_8 + (1 : Int32))) fun v173 =>
  b2 (F_X0_wrap k1_8 v173 k3_8 h_8) fun v175 h174 =>
  Option.bind (aldI h174 0 a1 (x4_8 + (1 : Int32))) fun v176 =>
  Option.bind (isO h174 1 k2_8) fun ob177 =>
  b2 (F_X4_wrap ob177 v176 h174) fun v179 h178 =>
  Option.bind (isO h178 1 k2_8) fun ob180 =>
  Option.bind (F_X4_thrown ob180 h178) fun v181 =>
  if v181 = v175 then (
    if v175 = 0 then (
      Option.bind (aldJ h178 4 k3_8 (0 : Int32)) fun v184 =>
      if (lg_cmp v184 (v179.toInt64)) = 0 then (
        some (.inl ((x4_8 + (5 : Int32)), h178))
      ) else (
        none
      )
    ) else (
      some (.inl ((x4_8 + (5 : Int32)), h178))
    )
  ) else (
    none
  )
set_option maxHeartbeats 4000000 in
theorem w_L_law_A978 {p : Program} {l : Launch} {e : Env} {R : Room} {s : State} {m : MethodId} {args : Array Value} {below : List Frame} {meth : Method} {c : Code} {Q : State → Prop} {D : va_G} {dA : Nat → ClassId} {h0 : HH} (hl : l.stackTraces = false) (X : FX p l s m args meth R c cL_law 8 "FerryClocksLaw" D dA h0 []) (hRf : R.frames = 8192) (hRl : R.locals = 100000) (a1 : Option Nat) (k1_8 : Option Nat) (k2_8 : Option Nat) (k3_8 : Option Nat) (x4_8 : Int32) (h_8 : HH) (o : (Int32 × HH) ⊕ HH) : F_L_law_A978 a1 k1_8 k2_8 k3_8 x4_8 h_8 = some o → (∀ y, o = .inl y → (fun z => G p l e R s m args below meth c Q D dA h0 8 z.2 23 [some (va_rf a1), some (va_rf k1_8), some (va_rf k2_8), some (va_rf k3_8), some (.int z.1), none, none, none] []) y) → (∀ r, o = .inr r → (fun z => G p l e R s m args below meth c Q D dA h0 8 z 3168 [none, none, none, none, none, none, none, none] []) r) → G p l e R s m args below meth c Q D dA h0 8 h_8 978 [some (va_rf a1), some (va_rf k1_8), some (va_rf k2_8), some (va_rf k3_8), some (.int x4_8), none, none, none] [] := by
  intro hF hgo hr
  unfold F_L_law_A978 at hF
  refine g_aload_n X dL_law_978 rfl rfl ?_
  refine g_aload_n X dL_law_979 rfl rfl ?_
  refine g_iload X dL_law_980 rfl ?_
  refine g_iconst (v := (1 : Int32)) X dL_law_982 (by decide) ?_
  refine g_iadd X dL_law_983 ?_
  obtain ⟨v173, ev173, hF⟩ := bnd hF
  refine g_iald X ev173 dL_law_984 ?_
  refine g_aload_n X dL_law_985 rfl rfl ?_
  obtain ⟨v175, h174, eh174, hF⟩ := b2_some hF
  refine g_callS X (w_X0_wrap l hl D dA h_8 k1_8 v173 k3_8 v175 h174 eh174) q1210 q1211 q91 q1212 okn_X0_wrap ⟨by rw [hRf]; exact Nat.le_of_ble_eq_true rfl, by rw [hRl]; exact Nat.le_of_ble_eq_true rfl⟩ (As := [va_rf k1_8, .int v173, va_rf k3_8]) (rest := []) rfl (by first | exact Nat.le_of_ble_eq_true rfl | simp [cat_rf, cat_i, cat_j, cat_f, cat_d]) dL_law_986 (ac_v ?_)
  refine g_istore (L' := [some (va_rf a1), some (va_rf k1_8), some (va_rf k2_8), some (va_rf k3_8), some (.int x4_8), some (.int v175), none, none]) X dL_law_989 (Nat.le_of_ble_eq_true rfl) (by first | rfl | simp [stL, rm1, clr2, cat_rf, cat_i, cat_j, cat_f, cat_d]) ?_
  refine g_aload_n X dL_law_991 rfl rfl ?_
  refine g_aload_n X dL_law_992 rfl rfl ?_
  refine g_iload X dL_law_993 rfl ?_
  refine g_iconst (v := (1 : Int32)) X dL_law_995 (by decide) ?_
  refine g_iadd X dL_law_996 ?_
  obtain ⟨v176, ev176, hF⟩ := bnd hF
  refine g_iald X ev176 dL_law_997 ?_
  obtain ⟨ob177, eob177, hF⟩ := bnd hF
  obtain ⟨v179, h178, eh178, hF⟩ := b2_some hF
  refine g_callV X eob177 rfl rfl (w_X4_wrap l hl D dA h174 ob177 v176 v179 h178 eh178) q2030 q2031 q2032 q103 q2033 okn_X4_wrap ⟨by rw [hRf]; exact Nat.le_of_ble_eq_true rfl, by rw [hRl]; exact Nat.le_of_ble_eq_true rfl⟩ (As := [.int v176]) (rest := []) rfl (by first | exact Nat.le_of_ble_eq_true rfl | simp [cat_rf, cat_i, cat_j, cat_f, cat_d]) dL_law_998 (ac_v ?_)
  refine g_istore (L' := [some (va_rf a1), some (va_rf k1_8), some (va_rf k2_8), some (va_rf k3_8), some (.int x4_8), some (.int v175), some (.int v179), none]) X dL_law_1001 (Nat.le_of_ble_eq_true rfl) (by first | rfl | simp [stL, rm1, clr2, cat_rf, cat_i, cat_j, cat_f, cat_d]) ?_
  refine g_aload_n X dL_law_1003 rfl rfl ?_
  obtain ⟨ob180, eob180, hF⟩ := bnd hF
  obtain ⟨v181, ev181, hF⟩ := bnd hF
  refine g_callV X eob180 rfl rfl (w_X4_thrown l hl D dA h178 ob180  v181 ev181) q1851 q1852 q1853 q103 q1854 okn_X4_thrown ⟨by rw [hRf]; exact Nat.le_of_ble_eq_true rfl, by rw [hRl]; exact Nat.le_of_ble_eq_true rfl⟩ (As := []) (rest := []) rfl (by first | exact Nat.le_of_ble_eq_true rfl | simp [cat_rf, cat_i, cat_j, cat_f, cat_d]) dL_law_1004 (ac_v ?_)
  refine g_iload X dL_law_1007 rfl ?_
  refine g_icmp_eq X 1014 dL_law_1009 (by decide) (fun c182 => ?_) (fun c182 => ?_)
  · have hF := (if_pos c182).symm.trans hF
    refine g_iload X dL_law_1014 rfl ?_
    refine g_if_ne X 1031 dL_law_1016 (by decide) (fun c183 => ?_) (fun c183 => ?_)
    · have hF := (if_neg c183).symm.trans hF
      refine g_goto X 3162 dL_law_1031 (by decide) ?_
      refine g_iinc (v := (x4_8 + (5 : Int32))) (L' := [some (va_rf a1), some (va_rf k1_8), some (va_rf k2_8), some (va_rf k3_8), some (.int (x4_8 + (5 : Int32))), some (.int v175), some (.int v179), none]) X dL_law_3162 (Nat.le_of_ble_eq_true rfl) rfl rfl (by first | rfl | simp [stL, rm1, clr2, cat_rf, cat_i, cat_j, cat_f, cat_d]) ?_
      refine g_goto X 23 dL_law_3165 (by decide) ?_
      refine G.drop [true, true, true, true, true, false, false, false] rfl ?_
      cases hF
      exact hgo _ rfl
    · have hF := (if_pos c183).symm.trans hF
      refine g_aload_n X dL_law_1019 rfl rfl ?_
      refine g_iconst (v := (0 : Int32)) X dL_law_1020 (by decide) ?_
      obtain ⟨v184, ev184, hF⟩ := bnd hF
      refine g_lald X ev184 dL_law_1021 ?_
      refine g_iload X dL_law_1022 rfl ?_
      refine g_i2l X dL_law_1024 ?_
      refine g_lcmp X dL_law_1025 ?_
      refine g_if_eq X 1031 dL_law_1026 (by decide) (fun c185 => ?_) (fun c185 => ?_)
      · have hF := (if_pos c185).symm.trans hF
        refine g_goto X 3162 dL_law_1031 (by decide) ?_
        refine g_iinc (v := (x4_8 + (5 : Int32))) (L' := [some (va_rf a1), some (va_rf k1_8), some (va_rf k2_8), some (va_rf k3_8), some (.int (x4_8 + (5 : Int32))), some (.int v175), some (.int v179), none]) X dL_law_3162 (Nat.le_of_ble_eq_true rfl) rfl rfl (by first | rfl | simp [stL, rm1, clr2, cat_rf, cat_i, cat_j, cat_f, cat_d]) ?_
        refine g_goto X 23 dL_law_3165 (by decide) ?_
        refine G.drop [true, true, true, true, true, false, false, false] rfl ?_
        cases hF
        exact hgo _ rfl
      · have hF := (if_neg c185).symm.trans hF
        cases hF
  · have hF := (if_neg c182).symm.trans hF
    cases hF
def F_L_law_A1034 (a1 : Option Nat) (k1_8 : Option Nat) (k2_8 : Option Nat) (k3_8 : Option Nat) (x4_8 : Int32) (h_8 : HH) : Option ((Int32 × HH) ⊕ HH) :=
  Option.bind (aldI h_8 0 a1 (x4_8 + (1 : Int32))) fun v186 =>
  Option.bind (aldI h_8 0 a1 (x4_8 + (2 : Int32))) fun v187 =>
  Option.bind (aldI h_8 0 a1 (x4_8 + (3 : Int32))) fun v188 =>
  b2 (F_X0_setStay k1_8 v186 v187 v188 k3_8 h_8) fun v190 h189 =>
  Option.bind (aldI h189 0 a1 (x4_8 + (1 : Int32))) fun v191 =>
  Option.bind (aldI h189 0 a1 (x4_8 + (2 : Int32))) fun v192 =>
  Option.bind (aldI h189 0 a1 (x4_8 + (3 : Int32))) fun v193 =>
  Option.bind (isO h189 1 k2_8) fun ob194 =>
  b2 (F_X4_setStay ob194 v191 v192 v193 h189) fun v196 h195 =>
  Option.bind (isO h195 1 k2_8) fun ob197 =>
  Option.bind (F_X4_thrown ob197 h195) fun v198 =>
  if v198 = v190 then (
    if v190 = 0 then (
      Option.bind (aldJ h195 4 k3_8 (0 : Int32)) fun v201 =>
      if (lg_cmp v201 (v196.toInt64)) = 0 then (
        some (.inl ((x4_8 + (5 : Int32)), h195))
      ) else (
        none
      )
    ) else (
      some (.inl ((x4_8 + (5 : Int32)), h195))
    )
  ) else (
    none
  )
set_option maxHeartbeats 4000000 in
theorem w_L_law_A1034 {p : Program} {l : Launch} {e : Env} {R : Room} {s : State} {m : MethodId} {args : Array Value} {below : List Frame} {meth : Method} {c : Code} {Q : State → Prop} {D : va_G} {dA : Nat → ClassId} {h0 : HH} (hl : l.stackTraces = false) (X : FX p l s m args meth R c cL_law 8 "FerryClocksLaw" D dA h0 []) (hRf : R.frames = 8192) (hRl : R.locals = 100000) (a1 : Option Nat) (k1_8 : Option Nat) (k2_8 : Option Nat) (k3_8 : Option Nat) (x4_8 : Int32) (h_8 : HH) (o : (Int32 × HH) ⊕ HH) : F_L_law_A1034 a1 k1_8 k2_8 k3_8 x4_8 h_8 = some o → (∀ y, o = .inl y → (fun z => G p l e R s m args below meth c Q D dA h0 8 z.2 23 [some (va_rf a1), some (va_rf k1_8), some (va_rf k2_8), some (va_rf k3_8), some (.int z.1), none, none, none] []) y) → (∀ r, o = .inr r → (fun z => G p l e R s m args below meth c Q D dA h0 8 z 3168 [none, none, none, none, none, none, none, none] []) r) → G p l e R s m args below meth c Q D dA h0 8 h_8 1034 [some (va_rf a1), some (va_rf k1_8), some (va_rf k2_8), some (va_rf k3_8), some (.int x4_8), none, none, none] [] := by
  intro hF hgo hr
  unfold F_L_law_A1034 at hF
  refine g_aload_n X dL_law_1034 rfl rfl ?_
  refine g_aload_n X dL_law_1035 rfl rfl ?_
  refine g_iload X dL_law_1036 rfl ?_
  refine g_iconst (v := (1 : Int32)) X dL_law_1038 (by decide) ?_
  refine g_iadd X dL_law_1039 ?_
  obtain ⟨v186, ev186, hF⟩ := bnd hF
  refine g_iald X ev186 dL_law_1040 ?_
  refine g_aload_n X dL_law_1041 rfl rfl ?_
  refine g_iload X dL_law_1042 rfl ?_
  refine g_iconst (v := (2 : Int32)) X dL_law_1044 (by decide) ?_
  refine g_iadd X dL_law_1045 ?_
  obtain ⟨v187, ev187, hF⟩ := bnd hF
  refine g_iald X ev187 dL_law_1046 ?_
  refine g_aload_n X dL_law_1047 rfl rfl ?_
  refine g_iload X dL_law_1048 rfl ?_
  refine g_iconst (v := (3 : Int32)) X dL_law_1050 (by decide) ?_
  refine g_iadd X dL_law_1051 ?_
  obtain ⟨v188, ev188, hF⟩ := bnd hF
  refine g_iald X ev188 dL_law_1052 ?_
  refine g_aload_n X dL_law_1053 rfl rfl ?_
  obtain ⟨v190, h189, eh189, hF⟩ := b2_some hF
  refine g_callS X (w_X0_setStay l hl D dA h_8 k1_8 v186 v187 v188 k3_8 v190 h189 eh189) q1217 q1218 q91 q1219 okn_X0_setStay ⟨by rw [hRf]; exact Nat.le_of_ble_eq_true rfl, by rw [hRl]; exact Nat.le_of_ble_eq_true rfl⟩ (As := [va_rf k1_8, .int v186, .int v187, .int v188, va_rf k3_8]) (rest := []) rfl (by first | exact Nat.le_of_ble_eq_true rfl | simp [cat_rf, cat_i, cat_j, cat_f, cat_d]) dL_law_1054 (ac_v ?_)
  refine g_istore (L' := [some (va_rf a1), some (va_rf k1_8), some (va_rf k2_8), some (va_rf k3_8), some (.int x4_8), some (.int v190), none, none]) X dL_law_1057 (Nat.le_of_ble_eq_true rfl) (by first | rfl | simp [stL, rm1, clr2, cat_rf, cat_i, cat_j, cat_f, cat_d]) ?_
  refine g_aload_n X dL_law_1059 rfl rfl ?_
  refine g_aload_n X dL_law_1060 rfl rfl ?_
  refine g_iload X dL_law_1061 rfl ?_
  refine g_iconst (v := (1 : Int32)) X dL_law_1063 (by decide) ?_
  refine g_iadd X dL_law_1064 ?_
  obtain ⟨v191, ev191, hF⟩ := bnd hF
  refine g_iald X ev191 dL_law_1065 ?_
  refine g_aload_n X dL_law_1066 rfl rfl ?_
  refine g_iload X dL_law_1067 rfl ?_
  refine g_iconst (v := (2 : Int32)) X dL_law_1069 (by decide) ?_
  refine g_iadd X dL_law_1070 ?_
  obtain ⟨v192, ev192, hF⟩ := bnd hF
  refine g_iald X ev192 dL_law_1071 ?_
  refine g_aload_n X dL_law_1072 rfl rfl ?_
  refine g_iload X dL_law_1073 rfl ?_
  refine g_iconst (v := (3 : Int32)) X dL_law_1075 (by decide) ?_
  refine g_iadd X dL_law_1076 ?_
  obtain ⟨v193, ev193, hF⟩ := bnd hF
  refine g_iald X ev193 dL_law_1077 ?_
  obtain ⟨ob194, eob194, hF⟩ := bnd hF
  obtain ⟨v196, h195, eh195, hF⟩ := b2_some hF
  refine g_callV X eob194 rfl rfl (w_X4_setStay l hl D dA h189 ob194 v191 v192 v193 v196 h195 eh195) q2041 q2042 q2043 q103 q2044 okn_X4_setStay ⟨by rw [hRf]; exact Nat.le_of_ble_eq_true rfl, by rw [hRl]; exact Nat.le_of_ble_eq_true rfl⟩ (As := [.int v191, .int v192, .int v193]) (rest := []) rfl (by first | exact Nat.le_of_ble_eq_true rfl | simp [cat_rf, cat_i, cat_j, cat_f, cat_d]) dL_law_1078 (ac_v ?_)
  refine g_istore (L' := [some (va_rf a1), some (va_rf k1_8), some (va_rf k2_8), some (va_rf k3_8), some (.int x4_8), some (.int v190), some (.int v196), none]) X dL_law_1081 (Nat.le_of_ble_eq_true rfl) (by first | rfl | simp [stL, rm1, clr2, cat_rf, cat_i, cat_j, cat_f, cat_d]) ?_
  refine g_aload_n X dL_law_1083 rfl rfl ?_
  obtain ⟨ob197, eob197, hF⟩ := bnd hF
  obtain ⟨v198, ev198, hF⟩ := bnd hF
  refine g_callV X eob197 rfl rfl (w_X4_thrown l hl D dA h195 ob197  v198 ev198) q1851 q1852 q1853 q103 q1854 okn_X4_thrown ⟨by rw [hRf]; exact Nat.le_of_ble_eq_true rfl, by rw [hRl]; exact Nat.le_of_ble_eq_true rfl⟩ (As := []) (rest := []) rfl (by first | exact Nat.le_of_ble_eq_true rfl | simp [cat_rf, cat_i, cat_j, cat_f, cat_d]) dL_law_1084 (ac_v ?_)
  refine g_iload X dL_law_1087 rfl ?_
  refine g_icmp_eq X 1094 dL_law_1089 (by decide) (fun c199 => ?_) (fun c199 => ?_)
  · have hF := (if_pos c199).symm.trans hF
    refine g_iload X dL_law_1094 rfl ?_
    refine g_if_ne X 1111 dL_law_1096 (by decide) (fun c200 => ?_) (fun c200 => ?_)
    · have hF := (if_neg c200).symm.trans hF
      refine g_goto X 3162 dL_law_1111 (by decide) ?_
      refine g_iinc (v := (x4_8 + (5 : Int32))) (L' := [some (va_rf a1), some (va_rf k1_8), some (va_rf k2_8), some (va_rf k3_8), some (.int (x4_8 + (5 : Int32))), some (.int v190), some (.int v196), none]) X dL_law_3162 (Nat.le_of_ble_eq_true rfl) rfl rfl (by first | rfl | simp [stL, rm1, clr2, cat_rf, cat_i, cat_j, cat_f, cat_d]) ?_
      refine g_goto X 23 dL_law_3165 (by decide) ?_
      refine G.drop [true, true, true, true, true, false, false, false] rfl ?_
      cases hF
      exact hgo _ rfl
    · have hF := (if_pos c200).symm.trans hF
      refine g_aload_n X dL_law_1099 rfl rfl ?_
      refine g_iconst (v := (0 : Int32)) X dL_law_1100 (by decide) ?_
      obtain ⟨v201, ev201, hF⟩ := bnd hF
      refine g_lald X ev201 dL_law_1101 ?_
      refine g_iload X dL_law_1102 rfl ?_
      refine g_i2l X dL_law_1104 ?_
      refine g_lcmp X dL_law_1105 ?_
      refine g_if_eq X 1111 dL_law_1106 (by decide) (fun c202 => ?_) (fun c202 => ?_)
      · have hF := (if_pos c202).symm.trans hF
        refine g_goto X 3162 dL_law_1111 (by decide) ?_
        refine g_iinc (v := (x4_8 + (5 : Int32))) (L' := [some (va_rf a1), some (va_rf k1_8), some (va_rf k2_8), some (va_rf k3_8), some (.int (x4_8 + (5 : Int32))), some (.int v190), some (.int v196), none]) X dL_law_3162 (Nat.le_of_ble_eq_true rfl) rfl rfl (by first | rfl | simp [stL, rm1, clr2, cat_rf, cat_i, cat_j, cat_f, cat_d]) ?_
        refine g_goto X 23 dL_law_3165 (by decide) ?_
        refine G.drop [true, true, true, true, true, false, false, false] rfl ?_
        cases hF
        exact hgo _ rfl
      · have hF := (if_neg c202).symm.trans hF
        cases hF
  · have hF := (if_neg c199).symm.trans hF
    cases hF
def F_L_law_A1114 (a1 : Option Nat) (k1_8 : Option Nat) (k2_8 : Option Nat) (k3_8 : Option Nat) (x4_8 : Int32) (h_8 : HH) : Option ((Int32 × HH) ⊕ HH) :=
  Option.bind (aldI h_8 0 a1 (x4_8 + (1 : Int32))) fun v203 =>
  Option.bind (aldI h_8 0 a1 (x4_8 + (2 : Int32))) fun v204 =>
  b2 (F_X0_addLine k1_8 v203 v204 k3_8 h_8) fun v206 h205 =>
  Option.bind (aldI h205 0 a1 (x4_8 + (1 : Int32))) fun v207 =>
  Option.bind (aldI h205 0 a1 (x4_8 + (2 : Int32))) fun v208 =>
  Option.bind (isO h205 1 k2_8) fun ob209 =>
  b2 (F_X4_addLine ob209 v207 v208 h205) fun v211 h210 =>
  Option.bind (isO h210 1 k2_8) fun ob212 =>
  Option.bind (F_X4_thrown ob212 h210) fun v213 =>
  if v213 = v206 then (
    if v206 = 0 then (
      Option.bind (aldJ h210 4 k3_8 (0 : Int32)) fun v216 =>
      if (lg_cmp v216 (v211.toInt64)) = 0 then (
        some (.inl ((x4_8 + (5 : Int32)), h210))
      ) else (
        none
      )
    ) else (
      some (.inl ((x4_8 + (5 : Int32)), h210))
    )
  ) else (
    none
  )
set_option maxHeartbeats 4000000 in
theorem w_L_law_A1114 {p : Program} {l : Launch} {e : Env} {R : Room} {s : State} {m : MethodId} {args : Array Value} {below : List Frame} {meth : Method} {c : Code} {Q : State → Prop} {D : va_G} {dA : Nat → ClassId} {h0 : HH} (hl : l.stackTraces = false) (X : FX p l s m args meth R c cL_law 8 "FerryClocksLaw" D dA h0 []) (hRf : R.frames = 8192) (hRl : R.locals = 100000) (a1 : Option Nat) (k1_8 : Option Nat) (k2_8 : Option Nat) (k3_8 : Option Nat) (x4_8 : Int32) (h_8 : HH) (o : (Int32 × HH) ⊕ HH) : F_L_law_A1114 a1 k1_8 k2_8 k3_8 x4_8 h_8 = some o → (∀ y, o = .inl y → (fun z => G p l e R s m args below meth c Q D dA h0 8 z.2 23 [some (va_rf a1), some (va_rf k1_8), some (va_rf k2_8), some (va_rf k3_8), some (.int z.1), none, none, none] []) y) → (∀ r, o = .inr r → (fun z => G p l e R s m args below meth c Q D dA h0 8 z 3168 [none, none, none, none, none, none, none, none] []) r) → G p l e R s m args below meth c Q D dA h0 8 h_8 1114 [some (va_rf a1), some (va_rf k1_8), some (va_rf k2_8), some (va_rf k3_8), some (.int x4_8), none, none, none] [] := by
  intro hF hgo hr
  unfold F_L_law_A1114 at hF
  refine g_aload_n X dL_law_1114 rfl rfl ?_
  refine g_aload_n X dL_law_1115 rfl rfl ?_
  refine g_iload X dL_law_1116 rfl ?_
  refine g_iconst (v := (1 : Int32)) X dL_law_1118 (by decide) ?_
  refine g_iadd X dL_law_1119 ?_
  obtain ⟨v203, ev203, hF⟩ := bnd hF
  refine g_iald X ev203 dL_law_1120 ?_
  refine g_aload_n X dL_law_1121 rfl rfl ?_
  refine g_iload X dL_law_1122 rfl ?_
  refine g_iconst (v := (2 : Int32)) X dL_law_1124 (by decide) ?_
  refine g_iadd X dL_law_1125 ?_
  obtain ⟨v204, ev204, hF⟩ := bnd hF
  refine g_iald X ev204 dL_law_1126 ?_
  refine g_aload_n X dL_law_1127 rfl rfl ?_
  obtain ⟨v206, h205, eh205, hF⟩ := b2_some hF
  refine g_callS X (w_X0_addLine l hl D dA h_8 k1_8 v203 v204 k3_8 v206 h205 eh205) q1224 q1225 q91 q1226 okn_X0_addLine ⟨by rw [hRf]; exact Nat.le_of_ble_eq_true rfl, by rw [hRl]; exact Nat.le_of_ble_eq_true rfl⟩ (As := [va_rf k1_8, .int v203, .int v204, va_rf k3_8]) (rest := []) rfl (by first | exact Nat.le_of_ble_eq_true rfl | simp [cat_rf, cat_i, cat_j, cat_f, cat_d]) dL_law_1128 (ac_v ?_)
  refine g_istore (L' := [some (va_rf a1), some (va_rf k1_8), some (va_rf k2_8), some (va_rf k3_8), some (.int x4_8), some (.int v206), none, none]) X dL_law_1131 (Nat.le_of_ble_eq_true rfl) (by first | rfl | simp [stL, rm1, clr2, cat_rf, cat_i, cat_j, cat_f, cat_d]) ?_
  refine g_aload_n X dL_law_1133 rfl rfl ?_
  refine g_aload_n X dL_law_1134 rfl rfl ?_
  refine g_iload X dL_law_1135 rfl ?_
  refine g_iconst (v := (1 : Int32)) X dL_law_1137 (by decide) ?_
  refine g_iadd X dL_law_1138 ?_
  obtain ⟨v207, ev207, hF⟩ := bnd hF
  refine g_iald X ev207 dL_law_1139 ?_
  refine g_aload_n X dL_law_1140 rfl rfl ?_
  refine g_iload X dL_law_1141 rfl ?_
  refine g_iconst (v := (2 : Int32)) X dL_law_1143 (by decide) ?_
  refine g_iadd X dL_law_1144 ?_
  obtain ⟨v208, ev208, hF⟩ := bnd hF
  refine g_iald X ev208 dL_law_1145 ?_
  obtain ⟨ob209, eob209, hF⟩ := bnd hF
  obtain ⟨v211, h210, eh210, hF⟩ := b2_some hF
  refine g_callV X eob209 rfl rfl (w_X4_addLine l hl D dA h205 ob209 v207 v208 v211 h210 eh210) q2048 q2049 q2050 q103 q2051 okn_X4_addLine ⟨by rw [hRf]; exact Nat.le_of_ble_eq_true rfl, by rw [hRl]; exact Nat.le_of_ble_eq_true rfl⟩ (As := [.int v207, .int v208]) (rest := []) rfl (by first | exact Nat.le_of_ble_eq_true rfl | simp [cat_rf, cat_i, cat_j, cat_f, cat_d]) dL_law_1146 (ac_v ?_)
  refine g_istore (L' := [some (va_rf a1), some (va_rf k1_8), some (va_rf k2_8), some (va_rf k3_8), some (.int x4_8), some (.int v206), some (.int v211), none]) X dL_law_1149 (Nat.le_of_ble_eq_true rfl) (by first | rfl | simp [stL, rm1, clr2, cat_rf, cat_i, cat_j, cat_f, cat_d]) ?_
  refine g_aload_n X dL_law_1151 rfl rfl ?_
  obtain ⟨ob212, eob212, hF⟩ := bnd hF
  obtain ⟨v213, ev213, hF⟩ := bnd hF
  refine g_callV X eob212 rfl rfl (w_X4_thrown l hl D dA h210 ob212  v213 ev213) q1851 q1852 q1853 q103 q1854 okn_X4_thrown ⟨by rw [hRf]; exact Nat.le_of_ble_eq_true rfl, by rw [hRl]; exact Nat.le_of_ble_eq_true rfl⟩ (As := []) (rest := []) rfl (by first | exact Nat.le_of_ble_eq_true rfl | simp [cat_rf, cat_i, cat_j, cat_f, cat_d]) dL_law_1152 (ac_v ?_)
  refine g_iload X dL_law_1155 rfl ?_
  refine g_icmp_eq X 1162 dL_law_1157 (by decide) (fun c214 => ?_) (fun c214 => ?_)
  · have hF := (if_pos c214).symm.trans hF
    refine g_iload X dL_law_1162 rfl ?_
    refine g_if_ne X 1179 dL_law_1164 (by decide) (fun c215 => ?_) (fun c215 => ?_)
    · have hF := (if_neg c215).symm.trans hF
      refine g_goto X 3162 dL_law_1179 (by decide) ?_
      refine g_iinc (v := (x4_8 + (5 : Int32))) (L' := [some (va_rf a1), some (va_rf k1_8), some (va_rf k2_8), some (va_rf k3_8), some (.int (x4_8 + (5 : Int32))), some (.int v206), some (.int v211), none]) X dL_law_3162 (Nat.le_of_ble_eq_true rfl) rfl rfl (by first | rfl | simp [stL, rm1, clr2, cat_rf, cat_i, cat_j, cat_f, cat_d]) ?_
      refine g_goto X 23 dL_law_3165 (by decide) ?_
      refine G.drop [true, true, true, true, true, false, false, false] rfl ?_
      cases hF
      exact hgo _ rfl
    · have hF := (if_pos c215).symm.trans hF
      refine g_aload_n X dL_law_1167 rfl rfl ?_
      refine g_iconst (v := (0 : Int32)) X dL_law_1168 (by decide) ?_
      obtain ⟨v216, ev216, hF⟩ := bnd hF
      refine g_lald X ev216 dL_law_1169 ?_
      refine g_iload X dL_law_1170 rfl ?_
      refine g_i2l X dL_law_1172 ?_
      refine g_lcmp X dL_law_1173 ?_
      refine g_if_eq X 1179 dL_law_1174 (by decide) (fun c217 => ?_) (fun c217 => ?_)
      · have hF := (if_pos c217).symm.trans hF
        refine g_goto X 3162 dL_law_1179 (by decide) ?_
        refine g_iinc (v := (x4_8 + (5 : Int32))) (L' := [some (va_rf a1), some (va_rf k1_8), some (va_rf k2_8), some (va_rf k3_8), some (.int (x4_8 + (5 : Int32))), some (.int v206), some (.int v211), none]) X dL_law_3162 (Nat.le_of_ble_eq_true rfl) rfl rfl (by first | rfl | simp [stL, rm1, clr2, cat_rf, cat_i, cat_j, cat_f, cat_d]) ?_
        refine g_goto X 23 dL_law_3165 (by decide) ?_
        refine G.drop [true, true, true, true, true, false, false, false] rfl ?_
        cases hF
        exact hgo _ rfl
      · have hF := (if_neg c217).symm.trans hF
        cases hF
  · have hF := (if_neg c214).symm.trans hF
    cases hF
def F_L_law_A1182 (a1 : Option Nat) (k1_8 : Option Nat) (k2_8 : Option Nat) (k3_8 : Option Nat) (x4_8 : Int32) (h_8 : HH) : Option ((Int32 × HH) ⊕ HH) :=
  Option.bind (aldI h_8 0 a1 (x4_8 + (1 : Int32))) fun v218 =>
  Option.bind (aldI h_8 0 a1 (x4_8 + (2 : Int32))) fun v219 =>
  Option.bind (aldI h_8 0 a1 (x4_8 + (3 : Int32))) fun v220 =>
  Option.bind (aldI h_8 0 a1 (x4_8 + (4 : Int32))) fun v221 =>
  b2 (F_X0_setNeed k1_8 v218 v219 v220 v221 k3_8 h_8) fun v223 h222 =>
  Option.bind (aldI h222 0 a1 (x4_8 + (1 : Int32))) fun v224 =>
  Option.bind (aldI h222 0 a1 (x4_8 + (2 : Int32))) fun v225 =>
  Option.bind (aldI h222 0 a1 (x4_8 + (3 : Int32))) fun v226 =>
  Option.bind (aldI h222 0 a1 (x4_8 + (4 : Int32))) fun v227 =>
  Option.bind (isO h222 1 k2_8) fun ob228 =>
  b2 (F_X4_setNeed ob228 v224 v225 v226 v227 h222) fun v230 h229 =>
  Option.bind (isO h229 1 k2_8) fun ob231 =>
  Option.bind (F_X4_thrown ob231 h229) fun v232 =>
  if v232 = v223 then (
    if v223 = 0 then (
      Option.bind (aldJ h229 4 k3_8 (0 : Int32)) fun v235 =>
      if (lg_cmp v235 (v230.toInt64)) = 0 then (
        some (.inl ((x4_8 + (5 : Int32)), h229))
      ) else (
        none
      )
    ) else (
      some (.inl ((x4_8 + (5 : Int32)), h229))
    )
  ) else (
    none
  )
set_option maxHeartbeats 4000000 in
theorem w_L_law_A1182 {p : Program} {l : Launch} {e : Env} {R : Room} {s : State} {m : MethodId} {args : Array Value} {below : List Frame} {meth : Method} {c : Code} {Q : State → Prop} {D : va_G} {dA : Nat → ClassId} {h0 : HH} (hl : l.stackTraces = false) (X : FX p l s m args meth R c cL_law 8 "FerryClocksLaw" D dA h0 []) (hRf : R.frames = 8192) (hRl : R.locals = 100000) (a1 : Option Nat) (k1_8 : Option Nat) (k2_8 : Option Nat) (k3_8 : Option Nat) (x4_8 : Int32) (h_8 : HH) (o : (Int32 × HH) ⊕ HH) : F_L_law_A1182 a1 k1_8 k2_8 k3_8 x4_8 h_8 = some o → (∀ y, o = .inl y → (fun z => G p l e R s m args below meth c Q D dA h0 8 z.2 23 [some (va_rf a1), some (va_rf k1_8), some (va_rf k2_8), some (va_rf k3_8), some (.int z.1), none, none, none] []) y) → (∀ r, o = .inr r → (fun z => G p l e R s m args below meth c Q D dA h0 8 z 3168 [none, none, none, none, none, none, none, none] []) r) → G p l e R s m args below meth c Q D dA h0 8 h_8 1182 [some (va_rf a1), some (va_rf k1_8), some (va_rf k2_8), some (va_rf k3_8), some (.int x4_8), none, none, none] [] := by
  intro hF hgo hr
  unfold F_L_law_A1182 at hF
  refine g_aload_n X dL_law_1182 rfl rfl ?_
  refine g_aload_n X dL_law_1183 rfl rfl ?_
  refine g_iload X dL_law_1184 rfl ?_
  refine g_iconst (v := (1 : Int32)) X dL_law_1186 (by decide) ?_
  refine g_iadd X dL_law_1187 ?_
  obtain ⟨v218, ev218, hF⟩ := bnd hF
  refine g_iald X ev218 dL_law_1188 ?_
  refine g_aload_n X dL_law_1189 rfl rfl ?_
  refine g_iload X dL_law_1190 rfl ?_
  refine g_iconst (v := (2 : Int32)) X dL_law_1192 (by decide) ?_
  refine g_iadd X dL_law_1193 ?_
  obtain ⟨v219, ev219, hF⟩ := bnd hF
  refine g_iald X ev219 dL_law_1194 ?_
  refine g_aload_n X dL_law_1195 rfl rfl ?_
  refine g_iload X dL_law_1196 rfl ?_
  refine g_iconst (v := (3 : Int32)) X dL_law_1198 (by decide) ?_
  refine g_iadd X dL_law_1199 ?_
  obtain ⟨v220, ev220, hF⟩ := bnd hF
  refine g_iald X ev220 dL_law_1200 ?_
  refine g_aload_n X dL_law_1201 rfl rfl ?_
  refine g_iload X dL_law_1202 rfl ?_
  refine g_iconst (v := (4 : Int32)) X dL_law_1204 (by decide) ?_
  refine g_iadd X dL_law_1205 ?_
  obtain ⟨v221, ev221, hF⟩ := bnd hF
  refine g_iald X ev221 dL_law_1206 ?_
  refine g_aload_n X dL_law_1207 rfl rfl ?_
  obtain ⟨v223, h222, eh222, hF⟩ := b2_some hF
  refine g_callS X (w_X0_setNeed l hl D dA h_8 k1_8 v218 v219 v220 v221 k3_8 v223 h222 eh222) q1231 q1232 q91 q1233 okn_X0_setNeed ⟨by rw [hRf]; exact Nat.le_of_ble_eq_true rfl, by rw [hRl]; exact Nat.le_of_ble_eq_true rfl⟩ (As := [va_rf k1_8, .int v218, .int v219, .int v220, .int v221, va_rf k3_8]) (rest := []) rfl (by first | exact Nat.le_of_ble_eq_true rfl | simp [cat_rf, cat_i, cat_j, cat_f, cat_d]) dL_law_1208 (ac_v ?_)
  refine g_istore (L' := [some (va_rf a1), some (va_rf k1_8), some (va_rf k2_8), some (va_rf k3_8), some (.int x4_8), some (.int v223), none, none]) X dL_law_1211 (Nat.le_of_ble_eq_true rfl) (by first | rfl | simp [stL, rm1, clr2, cat_rf, cat_i, cat_j, cat_f, cat_d]) ?_
  refine g_aload_n X dL_law_1213 rfl rfl ?_
  refine g_aload_n X dL_law_1214 rfl rfl ?_
  refine g_iload X dL_law_1215 rfl ?_
  refine g_iconst (v := (1 : Int32)) X dL_law_1217 (by decide) ?_
  refine g_iadd X dL_law_1218 ?_
  obtain ⟨v224, ev224, hF⟩ := bnd hF
  refine g_iald X ev224 dL_law_1219 ?_
  refine g_aload_n X dL_law_1220 rfl rfl ?_
  refine g_iload X dL_law_1221 rfl ?_
  refine g_iconst (v := (2 : Int32)) X dL_law_1223 (by decide) ?_
  refine g_iadd X dL_law_1224 ?_
  obtain ⟨v225, ev225, hF⟩ := bnd hF
  refine g_iald X ev225 dL_law_1225 ?_
  refine g_aload_n X dL_law_1226 rfl rfl ?_
  refine g_iload X dL_law_1227 rfl ?_
  refine g_iconst (v := (3 : Int32)) X dL_law_1229 (by decide) ?_
  refine g_iadd X dL_law_1230 ?_
  obtain ⟨v226, ev226, hF⟩ := bnd hF
  refine g_iald X ev226 dL_law_1231 ?_
  refine g_aload_n X dL_law_1232 rfl rfl ?_
  refine g_iload X dL_law_1233 rfl ?_
  refine g_iconst (v := (4 : Int32)) X dL_law_1235 (by decide) ?_
  refine g_iadd X dL_law_1236 ?_
  obtain ⟨v227, ev227, hF⟩ := bnd hF
  refine g_iald X ev227 dL_law_1237 ?_
  obtain ⟨ob228, eob228, hF⟩ := bnd hF
  obtain ⟨v230, h229, eh229, hF⟩ := b2_some hF
  refine g_callV X eob228 rfl rfl (w_X4_setNeed l hl D dA h222 ob228 v224 v225 v226 v227 v230 h229 eh229) q2056 q2057 q2058 q103 q2059 okn_X4_setNeed ⟨by rw [hRf]; exact Nat.le_of_ble_eq_true rfl, by rw [hRl]; exact Nat.le_of_ble_eq_true rfl⟩ (As := [.int v224, .int v225, .int v226, .int v227]) (rest := []) rfl (by first | exact Nat.le_of_ble_eq_true rfl | simp [cat_rf, cat_i, cat_j, cat_f, cat_d]) dL_law_1238 (ac_v ?_)
  refine g_istore (L' := [some (va_rf a1), some (va_rf k1_8), some (va_rf k2_8), some (va_rf k3_8), some (.int x4_8), some (.int v223), some (.int v230), none]) X dL_law_1241 (Nat.le_of_ble_eq_true rfl) (by first | rfl | simp [stL, rm1, clr2, cat_rf, cat_i, cat_j, cat_f, cat_d]) ?_
  refine g_aload_n X dL_law_1243 rfl rfl ?_
  obtain ⟨ob231, eob231, hF⟩ := bnd hF
  obtain ⟨v232, ev232, hF⟩ := bnd hF
  refine g_callV X eob231 rfl rfl (w_X4_thrown l hl D dA h229 ob231  v232 ev232) q1851 q1852 q1853 q103 q1854 okn_X4_thrown ⟨by rw [hRf]; exact Nat.le_of_ble_eq_true rfl, by rw [hRl]; exact Nat.le_of_ble_eq_true rfl⟩ (As := []) (rest := []) rfl (by first | exact Nat.le_of_ble_eq_true rfl | simp [cat_rf, cat_i, cat_j, cat_f, cat_d]) dL_law_1244 (ac_v ?_)
  refine g_iload X dL_law_1247 rfl ?_
  refine g_icmp_eq X 1254 dL_law_1249 (by decide) (fun c233 => ?_) (fun c233 => ?_)
  · have hF := (if_pos c233).symm.trans hF
    refine g_iload X dL_law_1254 rfl ?_
    refine g_if_ne X 1271 dL_law_1256 (by decide) (fun c234 => ?_) (fun c234 => ?_)
    · have hF := (if_neg c234).symm.trans hF
      refine g_goto X 3162 dL_law_1271 (by decide) ?_
      refine g_iinc (v := (x4_8 + (5 : Int32))) (L' := [some (va_rf a1), some (va_rf k1_8), some (va_rf k2_8), some (va_rf k3_8), some (.int (x4_8 + (5 : Int32))), some (.int v223), some (.int v230), none]) X dL_law_3162 (Nat.le_of_ble_eq_true rfl) rfl rfl (by first | rfl | simp [stL, rm1, clr2, cat_rf, cat_i, cat_j, cat_f, cat_d]) ?_
      refine g_goto X 23 dL_law_3165 (by decide) ?_
      refine G.drop [true, true, true, true, true, false, false, false] rfl ?_
      cases hF
      exact hgo _ rfl
    · have hF := (if_pos c234).symm.trans hF
      refine g_aload_n X dL_law_1259 rfl rfl ?_
      refine g_iconst (v := (0 : Int32)) X dL_law_1260 (by decide) ?_
      obtain ⟨v235, ev235, hF⟩ := bnd hF
      refine g_lald X ev235 dL_law_1261 ?_
      refine g_iload X dL_law_1262 rfl ?_
      refine g_i2l X dL_law_1264 ?_
      refine g_lcmp X dL_law_1265 ?_
      refine g_if_eq X 1271 dL_law_1266 (by decide) (fun c236 => ?_) (fun c236 => ?_)
      · have hF := (if_pos c236).symm.trans hF
        refine g_goto X 3162 dL_law_1271 (by decide) ?_
        refine g_iinc (v := (x4_8 + (5 : Int32))) (L' := [some (va_rf a1), some (va_rf k1_8), some (va_rf k2_8), some (va_rf k3_8), some (.int (x4_8 + (5 : Int32))), some (.int v223), some (.int v230), none]) X dL_law_3162 (Nat.le_of_ble_eq_true rfl) rfl rfl (by first | rfl | simp [stL, rm1, clr2, cat_rf, cat_i, cat_j, cat_f, cat_d]) ?_
        refine g_goto X 23 dL_law_3165 (by decide) ?_
        refine G.drop [true, true, true, true, true, false, false, false] rfl ?_
        cases hF
        exact hgo _ rfl
      · have hF := (if_neg c236).symm.trans hF
        cases hF
  · have hF := (if_neg c233).symm.trans hF
    cases hF
def F_L_law_A1274 (a1 : Option Nat) (k1_8 : Option Nat) (k2_8 : Option Nat) (k3_8 : Option Nat) (x4_8 : Int32) (h_8 : HH) : Option ((Int32 × HH) ⊕ HH) :=
  Option.bind (aldI h_8 0 a1 (x4_8 + (1 : Int32))) fun v237 =>
  Option.bind (aldI h_8 0 a1 (x4_8 + (2 : Int32))) fun v238 =>
  b2 (F_X0_turnReset k1_8 v237 v238 k3_8 h_8) fun v240 h239 =>
  Option.bind (aldI h239 0 a1 (x4_8 + (1 : Int32))) fun v241 =>
  Option.bind (aldI h239 0 a1 (x4_8 + (2 : Int32))) fun v242 =>
  Option.bind (isO h239 1 k2_8) fun ob243 =>
  b2 (F_X4_turnReset ob243 v241 v242 h239) fun v245 h244 =>
  Option.bind (isO h244 1 k2_8) fun ob246 =>
  Option.bind (F_X4_thrown ob246 h244) fun v247 =>
  if v247 = v240 then (
    if v240 = 0 then (
      Option.bind (aldJ h244 4 k3_8 (0 : Int32)) fun v250 =>
      if (lg_cmp v250 (if v245 = 0 then (0 : Int64) else (1 : Int64))) = 0 then (
        some (.inl ((x4_8 + (5 : Int32)), h244))
      ) else (
        none
      )
    ) else (
      some (.inl ((x4_8 + (5 : Int32)), h244))
    )
  ) else (
    none
  )
set_option maxHeartbeats 4000000 in
theorem w_L_law_A1274 {p : Program} {l : Launch} {e : Env} {R : Room} {s : State} {m : MethodId} {args : Array Value} {below : List Frame} {meth : Method} {c : Code} {Q : State → Prop} {D : va_G} {dA : Nat → ClassId} {h0 : HH} (hl : l.stackTraces = false) (X : FX p l s m args meth R c cL_law 8 "FerryClocksLaw" D dA h0 []) (hRf : R.frames = 8192) (hRl : R.locals = 100000) (a1 : Option Nat) (k1_8 : Option Nat) (k2_8 : Option Nat) (k3_8 : Option Nat) (x4_8 : Int32) (h_8 : HH) (o : (Int32 × HH) ⊕ HH) : F_L_law_A1274 a1 k1_8 k2_8 k3_8 x4_8 h_8 = some o → (∀ y, o = .inl y → (fun z => G p l e R s m args below meth c Q D dA h0 8 z.2 23 [some (va_rf a1), some (va_rf k1_8), some (va_rf k2_8), some (va_rf k3_8), some (.int z.1), none, none, none] []) y) → (∀ r, o = .inr r → (fun z => G p l e R s m args below meth c Q D dA h0 8 z 3168 [none, none, none, none, none, none, none, none] []) r) → G p l e R s m args below meth c Q D dA h0 8 h_8 1274 [some (va_rf a1), some (va_rf k1_8), some (va_rf k2_8), some (va_rf k3_8), some (.int x4_8), none, none, none] [] := by
  intro hF hgo hr
  unfold F_L_law_A1274 at hF
  refine g_aload_n X dL_law_1274 rfl rfl ?_
  refine g_aload_n X dL_law_1275 rfl rfl ?_
  refine g_iload X dL_law_1276 rfl ?_
  refine g_iconst (v := (1 : Int32)) X dL_law_1278 (by decide) ?_
  refine g_iadd X dL_law_1279 ?_
  obtain ⟨v237, ev237, hF⟩ := bnd hF
  refine g_iald X ev237 dL_law_1280 ?_
  refine g_aload_n X dL_law_1281 rfl rfl ?_
  refine g_iload X dL_law_1282 rfl ?_
  refine g_iconst (v := (2 : Int32)) X dL_law_1284 (by decide) ?_
  refine g_iadd X dL_law_1285 ?_
  obtain ⟨v238, ev238, hF⟩ := bnd hF
  refine g_iald X ev238 dL_law_1286 ?_
  refine g_aload_n X dL_law_1287 rfl rfl ?_
  obtain ⟨v240, h239, eh239, hF⟩ := b2_some hF
  refine g_callS X (w_X0_turnReset l hl D dA h_8 k1_8 v237 v238 k3_8 v240 h239 eh239) q1238 q1239 q91 q1240 okn_X0_turnReset ⟨by rw [hRf]; exact Nat.le_of_ble_eq_true rfl, by rw [hRl]; exact Nat.le_of_ble_eq_true rfl⟩ (As := [va_rf k1_8, .int v237, .int v238, va_rf k3_8]) (rest := []) rfl (by first | exact Nat.le_of_ble_eq_true rfl | simp [cat_rf, cat_i, cat_j, cat_f, cat_d]) dL_law_1288 (ac_v ?_)
  refine g_istore (L' := [some (va_rf a1), some (va_rf k1_8), some (va_rf k2_8), some (va_rf k3_8), some (.int x4_8), some (.int v240), none, none]) X dL_law_1291 (Nat.le_of_ble_eq_true rfl) (by first | rfl | simp [stL, rm1, clr2, cat_rf, cat_i, cat_j, cat_f, cat_d]) ?_
  refine g_aload_n X dL_law_1293 rfl rfl ?_
  refine g_aload_n X dL_law_1294 rfl rfl ?_
  refine g_iload X dL_law_1295 rfl ?_
  refine g_iconst (v := (1 : Int32)) X dL_law_1297 (by decide) ?_
  refine g_iadd X dL_law_1298 ?_
  obtain ⟨v241, ev241, hF⟩ := bnd hF
  refine g_iald X ev241 dL_law_1299 ?_
  refine g_aload_n X dL_law_1300 rfl rfl ?_
  refine g_iload X dL_law_1301 rfl ?_
  refine g_iconst (v := (2 : Int32)) X dL_law_1303 (by decide) ?_
  refine g_iadd X dL_law_1304 ?_
  obtain ⟨v242, ev242, hF⟩ := bnd hF
  refine g_iald X ev242 dL_law_1305 ?_
  obtain ⟨ob243, eob243, hF⟩ := bnd hF
  obtain ⟨v245, h244, eh244, hF⟩ := b2_some hF
  refine g_callV X eob243 rfl rfl (w_X4_turnReset l hl D dA h239 ob243 v241 v242 v245 h244 eh244) q2068 q2069 q2070 q103 q2071 okn_X4_turnReset ⟨by rw [hRf]; exact Nat.le_of_ble_eq_true rfl, by rw [hRl]; exact Nat.le_of_ble_eq_true rfl⟩ (As := [.int v241, .int v242]) (rest := []) rfl (by first | exact Nat.le_of_ble_eq_true rfl | simp [cat_rf, cat_i, cat_j, cat_f, cat_d]) dL_law_1306 (ac_v ?_)
  refine g_istore (L' := [some (va_rf a1), some (va_rf k1_8), some (va_rf k2_8), some (va_rf k3_8), some (.int x4_8), some (.int v240), some (.int v245), none]) X dL_law_1309 (Nat.le_of_ble_eq_true rfl) (by first | rfl | simp [stL, rm1, clr2, cat_rf, cat_i, cat_j, cat_f, cat_d]) ?_
  refine g_aload_n X dL_law_1311 rfl rfl ?_
  obtain ⟨ob246, eob246, hF⟩ := bnd hF
  obtain ⟨v247, ev247, hF⟩ := bnd hF
  refine g_callV X eob246 rfl rfl (w_X4_thrown l hl D dA h244 ob246  v247 ev247) q1851 q1852 q1853 q103 q1854 okn_X4_thrown ⟨by rw [hRf]; exact Nat.le_of_ble_eq_true rfl, by rw [hRl]; exact Nat.le_of_ble_eq_true rfl⟩ (As := []) (rest := []) rfl (by first | exact Nat.le_of_ble_eq_true rfl | simp [cat_rf, cat_i, cat_j, cat_f, cat_d]) dL_law_1312 (ac_v ?_)
  refine g_iload X dL_law_1315 rfl ?_
  refine g_icmp_eq X 1322 dL_law_1317 (by decide) (fun c248 => ?_) (fun c248 => ?_)
  · have hF := (if_pos c248).symm.trans hF
    refine g_iload X dL_law_1322 rfl ?_
    refine g_if_ne X 1346 dL_law_1324 (by decide) (fun c249 => ?_) (fun c249 => ?_)
    · have hF := (if_neg c249).symm.trans hF
      refine g_goto X 3162 dL_law_1346 (by decide) ?_
      refine g_iinc (v := (x4_8 + (5 : Int32))) (L' := [some (va_rf a1), some (va_rf k1_8), some (va_rf k2_8), some (va_rf k3_8), some (.int (x4_8 + (5 : Int32))), some (.int v240), some (.int v245), none]) X dL_law_3162 (Nat.le_of_ble_eq_true rfl) rfl rfl (by first | rfl | simp [stL, rm1, clr2, cat_rf, cat_i, cat_j, cat_f, cat_d]) ?_
      refine g_goto X 23 dL_law_3165 (by decide) ?_
      refine G.drop [true, true, true, true, true, false, false, false] rfl ?_
      cases hF
      exact hgo _ rfl
    · have hF := (if_pos c249).symm.trans hF
      refine g_aload_n X dL_law_1327 rfl rfl ?_
      refine g_iconst (v := (0 : Int32)) X dL_law_1328 (by decide) ?_
      obtain ⟨v250, ev250, hF⟩ := bnd hF
      refine g_lald X ev250 dL_law_1329 ?_
      refine g_iload X dL_law_1330 rfl ?_
      suffices K : G p l e R s m args below meth c Q D dA h0 8 h244 1340 [some (va_rf a1), some (va_rf k1_8), some (va_rf k2_8), some (va_rf k3_8), some (.int x4_8), none, none, none] [.long (if v245 = 0 then (0 : Int64) else (1 : Int64)), .long v250] by
        refine g_if_eq X 1339 dL_law_1332 (by decide) (fun c251 => ?_) (fun c251 => ?_)
        · (try simp only [if_pos c251] at K)
          refine g_lconst (v := (0 : Int64)) X dL_law_1339 (by decide) ?_
          refine G.drop [true, true, true, true, true, false, false, false] rfl ?_
          first | exact K | (simp only [if_pos c251]; exact K)
        · (try simp only [if_neg c251] at K)
          refine g_lconst (v := (1 : Int64)) X dL_law_1335 (by decide) ?_
          refine g_goto X 1340 dL_law_1336 (by decide) ?_
          refine G.drop [true, true, true, true, true, false, false, false] rfl ?_
          first | exact K | (simp only [if_neg c251]; exact K)
      refine g_lcmp X dL_law_1340 ?_
      refine g_if_eq X 1346 dL_law_1341 (by decide) (fun c252 => ?_) (fun c252 => ?_)
      · have hF := (if_pos c252).symm.trans hF
        refine g_goto X 3162 dL_law_1346 (by decide) ?_
        refine g_iinc (v := (x4_8 + (5 : Int32))) (L' := [some (va_rf a1), some (va_rf k1_8), some (va_rf k2_8), some (va_rf k3_8), some (.int (x4_8 + (5 : Int32))), none, none, none]) X dL_law_3162 (Nat.le_of_ble_eq_true rfl) rfl rfl (by first | rfl | simp [stL, rm1, clr2, cat_rf, cat_i, cat_j, cat_f, cat_d]) ?_
        refine g_goto X 23 dL_law_3165 (by decide) ?_
        cases hF
        exact hgo _ rfl
      · have hF := (if_neg c252).symm.trans hF
        cases hF
  · have hF := (if_neg c248).symm.trans hF
    cases hF
def F_L_law_A1349 (a1 : Option Nat) (k1_8 : Option Nat) (k2_8 : Option Nat) (k3_8 : Option Nat) (x4_8 : Int32) (h_8 : HH) : Option ((Int32 × HH) ⊕ HH) :=
  Option.bind (aldI h_8 0 a1 (x4_8 + (1 : Int32))) fun v253 =>
  Option.bind (aldI h_8 0 a1 (x4_8 + (2 : Int32))) fun v254 =>
  b2 (F_X0_told k1_8 v253 v254 k3_8 h_8) fun v256 h255 =>
  Option.bind (aldI h255 0 a1 (x4_8 + (1 : Int32))) fun v257 =>
  Option.bind (aldI h255 0 a1 (x4_8 + (2 : Int32))) fun v258 =>
  Option.bind (isO h255 1 k2_8) fun ob259 =>
  b2 (F_X4_told ob259 v257 v258 h255) fun v261 h260 =>
  Option.bind (isO h260 1 k2_8) fun ob262 =>
  Option.bind (F_X4_thrown ob262 h260) fun v263 =>
  if v263 = v256 then (
    if v256 = 0 then (
      Option.bind (aldJ h260 4 k3_8 (0 : Int32)) fun v266 =>
      if (lg_cmp v266 (v261.toInt64)) = 0 then (
        some (.inl ((x4_8 + (5 : Int32)), h260))
      ) else (
        none
      )
    ) else (
      some (.inl ((x4_8 + (5 : Int32)), h260))
    )
  ) else (
    none
  )
set_option maxHeartbeats 4000000 in
theorem w_L_law_A1349 {p : Program} {l : Launch} {e : Env} {R : Room} {s : State} {m : MethodId} {args : Array Value} {below : List Frame} {meth : Method} {c : Code} {Q : State → Prop} {D : va_G} {dA : Nat → ClassId} {h0 : HH} (hl : l.stackTraces = false) (X : FX p l s m args meth R c cL_law 8 "FerryClocksLaw" D dA h0 []) (hRf : R.frames = 8192) (hRl : R.locals = 100000) (a1 : Option Nat) (k1_8 : Option Nat) (k2_8 : Option Nat) (k3_8 : Option Nat) (x4_8 : Int32) (h_8 : HH) (o : (Int32 × HH) ⊕ HH) : F_L_law_A1349 a1 k1_8 k2_8 k3_8 x4_8 h_8 = some o → (∀ y, o = .inl y → (fun z => G p l e R s m args below meth c Q D dA h0 8 z.2 23 [some (va_rf a1), some (va_rf k1_8), some (va_rf k2_8), some (va_rf k3_8), some (.int z.1), none, none, none] []) y) → (∀ r, o = .inr r → (fun z => G p l e R s m args below meth c Q D dA h0 8 z 3168 [none, none, none, none, none, none, none, none] []) r) → G p l e R s m args below meth c Q D dA h0 8 h_8 1349 [some (va_rf a1), some (va_rf k1_8), some (va_rf k2_8), some (va_rf k3_8), some (.int x4_8), none, none, none] [] := by
  intro hF hgo hr
  unfold F_L_law_A1349 at hF
  refine g_aload_n X dL_law_1349 rfl rfl ?_
  refine g_aload_n X dL_law_1350 rfl rfl ?_
  refine g_iload X dL_law_1351 rfl ?_
  refine g_iconst (v := (1 : Int32)) X dL_law_1353 (by decide) ?_
  refine g_iadd X dL_law_1354 ?_
  obtain ⟨v253, ev253, hF⟩ := bnd hF
  refine g_iald X ev253 dL_law_1355 ?_
  refine g_aload_n X dL_law_1356 rfl rfl ?_
  refine g_iload X dL_law_1357 rfl ?_
  refine g_iconst (v := (2 : Int32)) X dL_law_1359 (by decide) ?_
  refine g_iadd X dL_law_1360 ?_
  obtain ⟨v254, ev254, hF⟩ := bnd hF
  refine g_iald X ev254 dL_law_1361 ?_
  refine g_aload_n X dL_law_1362 rfl rfl ?_
  obtain ⟨v256, h255, eh255, hF⟩ := b2_some hF
  refine g_callS X (w_X0_told l hl D dA h_8 k1_8 v253 v254 k3_8 v256 h255 eh255) q1245 q1246 q91 q1247 okn_X0_told ⟨by rw [hRf]; exact Nat.le_of_ble_eq_true rfl, by rw [hRl]; exact Nat.le_of_ble_eq_true rfl⟩ (As := [va_rf k1_8, .int v253, .int v254, va_rf k3_8]) (rest := []) rfl (by first | exact Nat.le_of_ble_eq_true rfl | simp [cat_rf, cat_i, cat_j, cat_f, cat_d]) dL_law_1363 (ac_v ?_)
  refine g_istore (L' := [some (va_rf a1), some (va_rf k1_8), some (va_rf k2_8), some (va_rf k3_8), some (.int x4_8), some (.int v256), none, none]) X dL_law_1366 (Nat.le_of_ble_eq_true rfl) (by first | rfl | simp [stL, rm1, clr2, cat_rf, cat_i, cat_j, cat_f, cat_d]) ?_
  refine g_aload_n X dL_law_1368 rfl rfl ?_
  refine g_aload_n X dL_law_1369 rfl rfl ?_
  refine g_iload X dL_law_1370 rfl ?_
  refine g_iconst (v := (1 : Int32)) X dL_law_1372 (by decide) ?_
  refine g_iadd X dL_law_1373 ?_
  obtain ⟨v257, ev257, hF⟩ := bnd hF
  refine g_iald X ev257 dL_law_1374 ?_
  refine g_aload_n X dL_law_1375 rfl rfl ?_
  refine g_iload X dL_law_1376 rfl ?_
  refine g_iconst (v := (2 : Int32)) X dL_law_1378 (by decide) ?_
  refine g_iadd X dL_law_1379 ?_
  obtain ⟨v258, ev258, hF⟩ := bnd hF
  refine g_iald X ev258 dL_law_1380 ?_
  obtain ⟨ob259, eob259, hF⟩ := bnd hF
  obtain ⟨v261, h260, eh260, hF⟩ := b2_some hF
  refine g_callV X eob259 rfl rfl (w_X4_told l hl D dA h255 ob259 v257 v258 v261 h260 eh260) q2072 q2073 q2074 q103 q2075 okn_X4_told ⟨by rw [hRf]; exact Nat.le_of_ble_eq_true rfl, by rw [hRl]; exact Nat.le_of_ble_eq_true rfl⟩ (As := [.int v257, .int v258]) (rest := []) rfl (by first | exact Nat.le_of_ble_eq_true rfl | simp [cat_rf, cat_i, cat_j, cat_f, cat_d]) dL_law_1381 (ac_v ?_)
  refine g_istore (L' := [some (va_rf a1), some (va_rf k1_8), some (va_rf k2_8), some (va_rf k3_8), some (.int x4_8), some (.int v256), some (.int v261), none]) X dL_law_1384 (Nat.le_of_ble_eq_true rfl) (by first | rfl | simp [stL, rm1, clr2, cat_rf, cat_i, cat_j, cat_f, cat_d]) ?_
  refine g_aload_n X dL_law_1386 rfl rfl ?_
  obtain ⟨ob262, eob262, hF⟩ := bnd hF
  obtain ⟨v263, ev263, hF⟩ := bnd hF
  refine g_callV X eob262 rfl rfl (w_X4_thrown l hl D dA h260 ob262  v263 ev263) q1851 q1852 q1853 q103 q1854 okn_X4_thrown ⟨by rw [hRf]; exact Nat.le_of_ble_eq_true rfl, by rw [hRl]; exact Nat.le_of_ble_eq_true rfl⟩ (As := []) (rest := []) rfl (by first | exact Nat.le_of_ble_eq_true rfl | simp [cat_rf, cat_i, cat_j, cat_f, cat_d]) dL_law_1387 (ac_v ?_)
  refine g_iload X dL_law_1390 rfl ?_
  refine g_icmp_eq X 1397 dL_law_1392 (by decide) (fun c264 => ?_) (fun c264 => ?_)
  · have hF := (if_pos c264).symm.trans hF
    refine g_iload X dL_law_1397 rfl ?_
    refine g_if_ne X 1414 dL_law_1399 (by decide) (fun c265 => ?_) (fun c265 => ?_)
    · have hF := (if_neg c265).symm.trans hF
      refine g_goto X 3162 dL_law_1414 (by decide) ?_
      refine g_iinc (v := (x4_8 + (5 : Int32))) (L' := [some (va_rf a1), some (va_rf k1_8), some (va_rf k2_8), some (va_rf k3_8), some (.int (x4_8 + (5 : Int32))), some (.int v256), some (.int v261), none]) X dL_law_3162 (Nat.le_of_ble_eq_true rfl) rfl rfl (by first | rfl | simp [stL, rm1, clr2, cat_rf, cat_i, cat_j, cat_f, cat_d]) ?_
      refine g_goto X 23 dL_law_3165 (by decide) ?_
      refine G.drop [true, true, true, true, true, false, false, false] rfl ?_
      cases hF
      exact hgo _ rfl
    · have hF := (if_pos c265).symm.trans hF
      refine g_aload_n X dL_law_1402 rfl rfl ?_
      refine g_iconst (v := (0 : Int32)) X dL_law_1403 (by decide) ?_
      obtain ⟨v266, ev266, hF⟩ := bnd hF
      refine g_lald X ev266 dL_law_1404 ?_
      refine g_iload X dL_law_1405 rfl ?_
      refine g_i2l X dL_law_1407 ?_
      refine g_lcmp X dL_law_1408 ?_
      refine g_if_eq X 1414 dL_law_1409 (by decide) (fun c267 => ?_) (fun c267 => ?_)
      · have hF := (if_pos c267).symm.trans hF
        refine g_goto X 3162 dL_law_1414 (by decide) ?_
        refine g_iinc (v := (x4_8 + (5 : Int32))) (L' := [some (va_rf a1), some (va_rf k1_8), some (va_rf k2_8), some (va_rf k3_8), some (.int (x4_8 + (5 : Int32))), some (.int v256), some (.int v261), none]) X dL_law_3162 (Nat.le_of_ble_eq_true rfl) rfl rfl (by first | rfl | simp [stL, rm1, clr2, cat_rf, cat_i, cat_j, cat_f, cat_d]) ?_
        refine g_goto X 23 dL_law_3165 (by decide) ?_
        refine G.drop [true, true, true, true, true, false, false, false] rfl ?_
        cases hF
        exact hgo _ rfl
      · have hF := (if_neg c267).symm.trans hF
        cases hF
  · have hF := (if_neg c264).symm.trans hF
    cases hF
def F_L_law_A1417 (a1 : Option Nat) (k1_8 : Option Nat) (k2_8 : Option Nat) (k3_8 : Option Nat) (x4_8 : Int32) (h_8 : HH) : Option ((Int32 × HH) ⊕ HH) :=
  Option.bind (aldI h_8 0 a1 (x4_8 + (1 : Int32))) fun v268 =>
  Option.bind (aldI h_8 0 a1 (x4_8 + (2 : Int32))) fun v269 =>
  b2 (F_X0_tightened k1_8 v268 v269 k3_8 h_8) fun v271 h270 =>
  Option.bind (aldI h270 0 a1 (x4_8 + (1 : Int32))) fun v272 =>
  Option.bind (aldI h270 0 a1 (x4_8 + (2 : Int32))) fun v273 =>
  Option.bind (isO h270 1 k2_8) fun ob274 =>
  b2 (F_X4_tightened ob274 v272 v273 h270) fun v276 h275 =>
  Option.bind (isO h275 1 k2_8) fun ob277 =>
  Option.bind (F_X4_thrown ob277 h275) fun v278 =>
  if v278 = v271 then (
    if v271 = 0 then (
      Option.bind (aldJ h275 4 k3_8 (0 : Int32)) fun v281 =>
      if (lg_cmp v281 (v276.toInt64)) = 0 then (
        some (.inl ((x4_8 + (5 : Int32)), h275))
      ) else (
        none
      )
    ) else (
      some (.inl ((x4_8 + (5 : Int32)), h275))
    )
  ) else (
    none
  )
set_option maxHeartbeats 4000000 in
theorem w_L_law_A1417 {p : Program} {l : Launch} {e : Env} {R : Room} {s : State} {m : MethodId} {args : Array Value} {below : List Frame} {meth : Method} {c : Code} {Q : State → Prop} {D : va_G} {dA : Nat → ClassId} {h0 : HH} (hl : l.stackTraces = false) (X : FX p l s m args meth R c cL_law 8 "FerryClocksLaw" D dA h0 []) (hRf : R.frames = 8192) (hRl : R.locals = 100000) (a1 : Option Nat) (k1_8 : Option Nat) (k2_8 : Option Nat) (k3_8 : Option Nat) (x4_8 : Int32) (h_8 : HH) (o : (Int32 × HH) ⊕ HH) : F_L_law_A1417 a1 k1_8 k2_8 k3_8 x4_8 h_8 = some o → (∀ y, o = .inl y → (fun z => G p l e R s m args below meth c Q D dA h0 8 z.2 23 [some (va_rf a1), some (va_rf k1_8), some (va_rf k2_8), some (va_rf k3_8), some (.int z.1), none, none, none] []) y) → (∀ r, o = .inr r → (fun z => G p l e R s m args below meth c Q D dA h0 8 z 3168 [none, none, none, none, none, none, none, none] []) r) → G p l e R s m args below meth c Q D dA h0 8 h_8 1417 [some (va_rf a1), some (va_rf k1_8), some (va_rf k2_8), some (va_rf k3_8), some (.int x4_8), none, none, none] [] := by
  intro hF hgo hr
  unfold F_L_law_A1417 at hF
  refine g_aload_n X dL_law_1417 rfl rfl ?_
  refine g_aload_n X dL_law_1418 rfl rfl ?_
  refine g_iload X dL_law_1419 rfl ?_
  refine g_iconst (v := (1 : Int32)) X dL_law_1421 (by decide) ?_
  refine g_iadd X dL_law_1422 ?_
  obtain ⟨v268, ev268, hF⟩ := bnd hF
  refine g_iald X ev268 dL_law_1423 ?_
  refine g_aload_n X dL_law_1424 rfl rfl ?_
  refine g_iload X dL_law_1425 rfl ?_
  refine g_iconst (v := (2 : Int32)) X dL_law_1427 (by decide) ?_
  refine g_iadd X dL_law_1428 ?_
  obtain ⟨v269, ev269, hF⟩ := bnd hF
  refine g_iald X ev269 dL_law_1429 ?_
  refine g_aload_n X dL_law_1430 rfl rfl ?_
  obtain ⟨v271, h270, eh270, hF⟩ := b2_some hF
  refine g_callS X (w_X0_tightened l hl D dA h_8 k1_8 v268 v269 k3_8 v271 h270 eh270) q1270 q1271 q91 q1272 okn_X0_tightened ⟨by rw [hRf]; exact Nat.le_of_ble_eq_true rfl, by rw [hRl]; exact Nat.le_of_ble_eq_true rfl⟩ (As := [va_rf k1_8, .int v268, .int v269, va_rf k3_8]) (rest := []) rfl (by first | exact Nat.le_of_ble_eq_true rfl | simp [cat_rf, cat_i, cat_j, cat_f, cat_d]) dL_law_1431 (ac_v ?_)
  refine g_istore (L' := [some (va_rf a1), some (va_rf k1_8), some (va_rf k2_8), some (va_rf k3_8), some (.int x4_8), some (.int v271), none, none]) X dL_law_1434 (Nat.le_of_ble_eq_true rfl) (by first | rfl | simp [stL, rm1, clr2, cat_rf, cat_i, cat_j, cat_f, cat_d]) ?_
  refine g_aload_n X dL_law_1436 rfl rfl ?_
  refine g_aload_n X dL_law_1437 rfl rfl ?_
  refine g_iload X dL_law_1438 rfl ?_
  refine g_iconst (v := (1 : Int32)) X dL_law_1440 (by decide) ?_
  refine g_iadd X dL_law_1441 ?_
  obtain ⟨v272, ev272, hF⟩ := bnd hF
  refine g_iald X ev272 dL_law_1442 ?_
  refine g_aload_n X dL_law_1443 rfl rfl ?_
  refine g_iload X dL_law_1444 rfl ?_
  refine g_iconst (v := (2 : Int32)) X dL_law_1446 (by decide) ?_
  refine g_iadd X dL_law_1447 ?_
  obtain ⟨v273, ev273, hF⟩ := bnd hF
  refine g_iald X ev273 dL_law_1448 ?_
  obtain ⟨ob274, eob274, hF⟩ := bnd hF
  obtain ⟨v276, h275, eh275, hF⟩ := b2_some hF
  refine g_callV X eob274 rfl rfl (w_X4_tightened l hl D dA h270 ob274 v272 v273 v276 h275 eh275) q2084 q2085 q2086 q103 q2087 okn_X4_tightened ⟨by rw [hRf]; exact Nat.le_of_ble_eq_true rfl, by rw [hRl]; exact Nat.le_of_ble_eq_true rfl⟩ (As := [.int v272, .int v273]) (rest := []) rfl (by first | exact Nat.le_of_ble_eq_true rfl | simp [cat_rf, cat_i, cat_j, cat_f, cat_d]) dL_law_1449 (ac_v ?_)
  refine g_istore (L' := [some (va_rf a1), some (va_rf k1_8), some (va_rf k2_8), some (va_rf k3_8), some (.int x4_8), some (.int v271), some (.int v276), none]) X dL_law_1452 (Nat.le_of_ble_eq_true rfl) (by first | rfl | simp [stL, rm1, clr2, cat_rf, cat_i, cat_j, cat_f, cat_d]) ?_
  refine g_aload_n X dL_law_1454 rfl rfl ?_
  obtain ⟨ob277, eob277, hF⟩ := bnd hF
  obtain ⟨v278, ev278, hF⟩ := bnd hF
  refine g_callV X eob277 rfl rfl (w_X4_thrown l hl D dA h275 ob277  v278 ev278) q1851 q1852 q1853 q103 q1854 okn_X4_thrown ⟨by rw [hRf]; exact Nat.le_of_ble_eq_true rfl, by rw [hRl]; exact Nat.le_of_ble_eq_true rfl⟩ (As := []) (rest := []) rfl (by first | exact Nat.le_of_ble_eq_true rfl | simp [cat_rf, cat_i, cat_j, cat_f, cat_d]) dL_law_1455 (ac_v ?_)
  refine g_iload X dL_law_1458 rfl ?_
  refine g_icmp_eq X 1465 dL_law_1460 (by decide) (fun c279 => ?_) (fun c279 => ?_)
  · have hF := (if_pos c279).symm.trans hF
    refine g_iload X dL_law_1465 rfl ?_
    refine g_if_ne X 1482 dL_law_1467 (by decide) (fun c280 => ?_) (fun c280 => ?_)
    · have hF := (if_neg c280).symm.trans hF
      refine g_goto X 3162 dL_law_1482 (by decide) ?_
      refine g_iinc (v := (x4_8 + (5 : Int32))) (L' := [some (va_rf a1), some (va_rf k1_8), some (va_rf k2_8), some (va_rf k3_8), some (.int (x4_8 + (5 : Int32))), some (.int v271), some (.int v276), none]) X dL_law_3162 (Nat.le_of_ble_eq_true rfl) rfl rfl (by first | rfl | simp [stL, rm1, clr2, cat_rf, cat_i, cat_j, cat_f, cat_d]) ?_
      refine g_goto X 23 dL_law_3165 (by decide) ?_
      refine G.drop [true, true, true, true, true, false, false, false] rfl ?_
      cases hF
      exact hgo _ rfl
    · have hF := (if_pos c280).symm.trans hF
      refine g_aload_n X dL_law_1470 rfl rfl ?_
      refine g_iconst (v := (0 : Int32)) X dL_law_1471 (by decide) ?_
      obtain ⟨v281, ev281, hF⟩ := bnd hF
      refine g_lald X ev281 dL_law_1472 ?_
      refine g_iload X dL_law_1473 rfl ?_
      refine g_i2l X dL_law_1475 ?_
      refine g_lcmp X dL_law_1476 ?_
      refine g_if_eq X 1482 dL_law_1477 (by decide) (fun c282 => ?_) (fun c282 => ?_)
      · have hF := (if_pos c282).symm.trans hF
        refine g_goto X 3162 dL_law_1482 (by decide) ?_
        refine g_iinc (v := (x4_8 + (5 : Int32))) (L' := [some (va_rf a1), some (va_rf k1_8), some (va_rf k2_8), some (va_rf k3_8), some (.int (x4_8 + (5 : Int32))), some (.int v271), some (.int v276), none]) X dL_law_3162 (Nat.le_of_ble_eq_true rfl) rfl rfl (by first | rfl | simp [stL, rm1, clr2, cat_rf, cat_i, cat_j, cat_f, cat_d]) ?_
        refine g_goto X 23 dL_law_3165 (by decide) ?_
        refine G.drop [true, true, true, true, true, false, false, false] rfl ?_
        cases hF
        exact hgo _ rfl
      · have hF := (if_neg c282).symm.trans hF
        cases hF
  · have hF := (if_neg c279).symm.trans hF
    cases hF
def F_L_law_A1485 (a1 : Option Nat) (k1_8 : Option Nat) (k2_8 : Option Nat) (k3_8 : Option Nat) (x4_8 : Int32) (h_8 : HH) : Option ((Int32 × HH) ⊕ HH) :=
  Option.bind (isO h_8 0 k1_8) fun ob283 =>
  b2 (F_X1_isTight ob283 h_8) fun v285 h284 =>
  Option.bind (isO h284 1 k2_8) fun ob286 =>
  b2 (F_X4_isTight ob286 h284) fun v288 h287 =>
  if v285 = v288 then (
    some (.inl ((x4_8 + (5 : Int32)), h287))
  ) else (
    none
  )
set_option maxHeartbeats 4000000 in
theorem w_L_law_A1485 {p : Program} {l : Launch} {e : Env} {R : Room} {s : State} {m : MethodId} {args : Array Value} {below : List Frame} {meth : Method} {c : Code} {Q : State → Prop} {D : va_G} {dA : Nat → ClassId} {h0 : HH} (hl : l.stackTraces = false) (X : FX p l s m args meth R c cL_law 8 "FerryClocksLaw" D dA h0 []) (hRf : R.frames = 8192) (hRl : R.locals = 100000) (a1 : Option Nat) (k1_8 : Option Nat) (k2_8 : Option Nat) (k3_8 : Option Nat) (x4_8 : Int32) (h_8 : HH) (o : (Int32 × HH) ⊕ HH) : F_L_law_A1485 a1 k1_8 k2_8 k3_8 x4_8 h_8 = some o → (∀ y, o = .inl y → (fun z => G p l e R s m args below meth c Q D dA h0 8 z.2 23 [some (va_rf a1), some (va_rf k1_8), some (va_rf k2_8), some (va_rf k3_8), some (.int z.1), none, none, none] []) y) → (∀ r, o = .inr r → (fun z => G p l e R s m args below meth c Q D dA h0 8 z 3168 [none, none, none, none, none, none, none, none] []) r) → G p l e R s m args below meth c Q D dA h0 8 h_8 1485 [some (va_rf a1), some (va_rf k1_8), some (va_rf k2_8), some (va_rf k3_8), some (.int x4_8), none, none, none] [] := by
  intro hF hgo hr
  unfold F_L_law_A1485 at hF
  refine g_aload_n X dL_law_1485 rfl rfl ?_
  obtain ⟨ob283, eob283, hF⟩ := bnd hF
  obtain ⟨v285, h284, eh284, hF⟩ := b2_some hF
  refine g_callV X eob283 rfl rfl (w_X1_isTight l hl D dA h_8 ob283  v285 h284 eh284) q774 q775 q776 q92 q777 okn_X1_isTight ⟨by rw [hRf]; exact Nat.le_of_ble_eq_true rfl, by rw [hRl]; exact Nat.le_of_ble_eq_true rfl⟩ (As := []) (rest := []) rfl (by first | exact Nat.le_of_ble_eq_true rfl | simp [cat_rf, cat_i, cat_j, cat_f, cat_d]) dL_law_1486 (ac_v ?_)
  refine g_aload_n X dL_law_1489 rfl rfl ?_
  obtain ⟨ob286, eob286, hF⟩ := bnd hF
  obtain ⟨v288, h287, eh287, hF⟩ := b2_some hF
  refine g_callV X eob286 rfl rfl (w_X4_isTight l hl D dA h284 ob286  v288 h287 eh287) q2088 q2089 q2090 q103 q2091 okn_X4_isTight ⟨by rw [hRf]; exact Nat.le_of_ble_eq_true rfl, by rw [hRl]; exact Nat.le_of_ble_eq_true rfl⟩ (As := []) (rest := [.int v285]) rfl (by first | exact Nat.le_of_ble_eq_true rfl | simp [cat_rf, cat_i, cat_j, cat_f, cat_d]) dL_law_1490 (ac_v ?_)
  refine g_icmp_eq X 3162 dL_law_1493 (by decide) (fun c289 => ?_) (fun c289 => ?_)
  · have hF := (if_pos c289).symm.trans hF
    refine g_iinc (v := (x4_8 + (5 : Int32))) (L' := [some (va_rf a1), some (va_rf k1_8), some (va_rf k2_8), some (va_rf k3_8), some (.int (x4_8 + (5 : Int32))), none, none, none]) X dL_law_3162 (Nat.le_of_ble_eq_true rfl) rfl rfl (by first | rfl | simp [stL, rm1, clr2, cat_rf, cat_i, cat_j, cat_f, cat_d]) ?_
    refine g_goto X 23 dL_law_3165 (by decide) ?_
    cases hF
    exact hgo _ rfl
  · have hF := (if_neg c289).symm.trans hF
    cases hF
def F_L_law_A1498 (a1 : Option Nat) (k1_8 : Option Nat) (k2_8 : Option Nat) (k3_8 : Option Nat) (x4_8 : Int32) (h_8 : HH) : Option ((Int32 × HH) ⊕ HH) :=
  Option.bind (isO h_8 0 k1_8) fun ob290 =>
  b2 (F_X1_isEmpty ob290 h_8) fun v292 h291 =>
  Option.bind (isO h291 1 k2_8) fun ob293 =>
  b2 (F_X4_isEmpty ob293 h291) fun v295 h294 =>
  if v292 = v295 then (
    some (.inl ((x4_8 + (5 : Int32)), h294))
  ) else (
    none
  )
set_option maxHeartbeats 4000000 in
theorem w_L_law_A1498 {p : Program} {l : Launch} {e : Env} {R : Room} {s : State} {m : MethodId} {args : Array Value} {below : List Frame} {meth : Method} {c : Code} {Q : State → Prop} {D : va_G} {dA : Nat → ClassId} {h0 : HH} (hl : l.stackTraces = false) (X : FX p l s m args meth R c cL_law 8 "FerryClocksLaw" D dA h0 []) (hRf : R.frames = 8192) (hRl : R.locals = 100000) (a1 : Option Nat) (k1_8 : Option Nat) (k2_8 : Option Nat) (k3_8 : Option Nat) (x4_8 : Int32) (h_8 : HH) (o : (Int32 × HH) ⊕ HH) : F_L_law_A1498 a1 k1_8 k2_8 k3_8 x4_8 h_8 = some o → (∀ y, o = .inl y → (fun z => G p l e R s m args below meth c Q D dA h0 8 z.2 23 [some (va_rf a1), some (va_rf k1_8), some (va_rf k2_8), some (va_rf k3_8), some (.int z.1), none, none, none] []) y) → (∀ r, o = .inr r → (fun z => G p l e R s m args below meth c Q D dA h0 8 z 3168 [none, none, none, none, none, none, none, none] []) r) → G p l e R s m args below meth c Q D dA h0 8 h_8 1498 [some (va_rf a1), some (va_rf k1_8), some (va_rf k2_8), some (va_rf k3_8), some (.int x4_8), none, none, none] [] := by
  intro hF hgo hr
  unfold F_L_law_A1498 at hF
  refine g_aload_n X dL_law_1498 rfl rfl ?_
  obtain ⟨ob290, eob290, hF⟩ := bnd hF
  obtain ⟨v292, h291, eh291, hF⟩ := b2_some hF
  refine g_callV X eob290 rfl rfl (w_X1_isEmpty l hl D dA h_8 ob290  v292 h291 eh291) q781 q782 q783 q92 q784 okn_X1_isEmpty ⟨by rw [hRf]; exact Nat.le_of_ble_eq_true rfl, by rw [hRl]; exact Nat.le_of_ble_eq_true rfl⟩ (As := []) (rest := []) rfl (by first | exact Nat.le_of_ble_eq_true rfl | simp [cat_rf, cat_i, cat_j, cat_f, cat_d]) dL_law_1499 (ac_v ?_)
  refine g_aload_n X dL_law_1502 rfl rfl ?_
  obtain ⟨ob293, eob293, hF⟩ := bnd hF
  obtain ⟨v295, h294, eh294, hF⟩ := b2_some hF
  refine g_callV X eob293 rfl rfl (w_X4_isEmpty l hl D dA h291 ob293  v295 h294 eh294) q2092 q2093 q2094 q103 q2095 okn_X4_isEmpty ⟨by rw [hRf]; exact Nat.le_of_ble_eq_true rfl, by rw [hRl]; exact Nat.le_of_ble_eq_true rfl⟩ (As := []) (rest := [.int v292]) rfl (by first | exact Nat.le_of_ble_eq_true rfl | simp [cat_rf, cat_i, cat_j, cat_f, cat_d]) dL_law_1503 (ac_v ?_)
  refine g_icmp_eq X 3162 dL_law_1506 (by decide) (fun c296 => ?_) (fun c296 => ?_)
  · have hF := (if_pos c296).symm.trans hF
    refine g_iinc (v := (x4_8 + (5 : Int32))) (L' := [some (va_rf a1), some (va_rf k1_8), some (va_rf k2_8), some (va_rf k3_8), some (.int (x4_8 + (5 : Int32))), none, none, none]) X dL_law_3162 (Nat.le_of_ble_eq_true rfl) rfl rfl (by first | rfl | simp [stL, rm1, clr2, cat_rf, cat_i, cat_j, cat_f, cat_d]) ?_
    refine g_goto X 23 dL_law_3165 (by decide) ?_
    cases hF
    exact hgo _ rfl
  · have hF := (if_neg c296).symm.trans hF
    cases hF
def F_L_law_A1511 (a1 : Option Nat) (k1_8 : Option Nat) (k2_8 : Option Nat) (k3_8 : Option Nat) (x4_8 : Int32) (h_8 : HH) : Option ((Int32 × HH) ⊕ HH) :=
  Option.bind (isO h_8 0 k1_8) fun ob297 =>
  b2 (F_X1_isEmptyByMoments ob297 h_8) fun v299 h298 =>
  Option.bind (isO h298 1 k2_8) fun ob300 =>
  b2 (F_X4_isEmptyByMoments ob300 h298) fun v302 h301 =>
  if v299 = v302 then (
    some (.inl ((x4_8 + (5 : Int32)), h301))
  ) else (
    none
  )
set_option maxHeartbeats 4000000 in
theorem w_L_law_A1511 {p : Program} {l : Launch} {e : Env} {R : Room} {s : State} {m : MethodId} {args : Array Value} {below : List Frame} {meth : Method} {c : Code} {Q : State → Prop} {D : va_G} {dA : Nat → ClassId} {h0 : HH} (hl : l.stackTraces = false) (X : FX p l s m args meth R c cL_law 8 "FerryClocksLaw" D dA h0 []) (hRf : R.frames = 8192) (hRl : R.locals = 100000) (a1 : Option Nat) (k1_8 : Option Nat) (k2_8 : Option Nat) (k3_8 : Option Nat) (x4_8 : Int32) (h_8 : HH) (o : (Int32 × HH) ⊕ HH) : F_L_law_A1511 a1 k1_8 k2_8 k3_8 x4_8 h_8 = some o → (∀ y, o = .inl y → (fun z => G p l e R s m args below meth c Q D dA h0 8 z.2 23 [some (va_rf a1), some (va_rf k1_8), some (va_rf k2_8), some (va_rf k3_8), some (.int z.1), none, none, none] []) y) → (∀ r, o = .inr r → (fun z => G p l e R s m args below meth c Q D dA h0 8 z 3168 [none, none, none, none, none, none, none, none] []) r) → G p l e R s m args below meth c Q D dA h0 8 h_8 1511 [some (va_rf a1), some (va_rf k1_8), some (va_rf k2_8), some (va_rf k3_8), some (.int x4_8), none, none, none] [] := by
  intro hF hgo hr
  unfold F_L_law_A1511 at hF
  refine g_aload_n X dL_law_1511 rfl rfl ?_
  obtain ⟨ob297, eob297, hF⟩ := bnd hF
  obtain ⟨v299, h298, eh298, hF⟩ := b2_some hF
  refine g_callV X eob297 rfl rfl (w_X1_isEmptyByMoments l hl D dA h_8 ob297  v299 h298 eh298) q791 q792 q793 q92 q794 okn_X1_isEmptyByMoments ⟨by rw [hRf]; exact Nat.le_of_ble_eq_true rfl, by rw [hRl]; exact Nat.le_of_ble_eq_true rfl⟩ (As := []) (rest := []) rfl (by first | exact Nat.le_of_ble_eq_true rfl | simp [cat_rf, cat_i, cat_j, cat_f, cat_d]) dL_law_1512 (ac_v ?_)
  refine g_aload_n X dL_law_1515 rfl rfl ?_
  obtain ⟨ob300, eob300, hF⟩ := bnd hF
  obtain ⟨v302, h301, eh301, hF⟩ := b2_some hF
  refine g_callV X eob300 rfl rfl (w_X4_isEmptyByMoments l hl D dA h298 ob300  v302 h301 eh301) q2100 q2101 q2102 q103 q2103 okn_X4_isEmptyByMoments ⟨by rw [hRf]; exact Nat.le_of_ble_eq_true rfl, by rw [hRl]; exact Nat.le_of_ble_eq_true rfl⟩ (As := []) (rest := [.int v299]) rfl (by first | exact Nat.le_of_ble_eq_true rfl | simp [cat_rf, cat_i, cat_j, cat_f, cat_d]) dL_law_1516 (ac_v ?_)
  refine g_icmp_eq X 3162 dL_law_1519 (by decide) (fun c303 => ?_) (fun c303 => ?_)
  · have hF := (if_pos c303).symm.trans hF
    refine g_iinc (v := (x4_8 + (5 : Int32))) (L' := [some (va_rf a1), some (va_rf k1_8), some (va_rf k2_8), some (va_rf k3_8), some (.int (x4_8 + (5 : Int32))), none, none, none]) X dL_law_3162 (Nat.le_of_ble_eq_true rfl) rfl rfl (by first | rfl | simp [stL, rm1, clr2, cat_rf, cat_i, cat_j, cat_f, cat_d]) ?_
    refine g_goto X 23 dL_law_3165 (by decide) ?_
    cases hF
    exact hgo _ rfl
  · have hF := (if_neg c303).symm.trans hF
    cases hF
def F_L_law_A1524 (a1 : Option Nat) (k1_8 : Option Nat) (k2_8 : Option Nat) (k3_8 : Option Nat) (x4_8 : Int32) (h_8 : HH) : Option ((Int32 × HH) ⊕ HH) :=
  Option.bind (aldI h_8 0 a1 (x4_8 + (1 : Int32))) fun v304 =>
  Option.bind (aldI h_8 0 a1 (x4_8 + (2 : Int32))) fun v305 =>
  Option.bind (aldI h_8 0 a1 (x4_8 + (3 : Int32))) fun v306 =>
  b2 (F_X0_hasMoment k1_8 v304 v305 v306 k3_8 h_8) fun v308 h307 =>
  Option.bind (aldI h307 0 a1 (x4_8 + (1 : Int32))) fun v309 =>
  Option.bind (aldI h307 0 a1 (x4_8 + (2 : Int32))) fun v310 =>
  Option.bind (aldI h307 0 a1 (x4_8 + (3 : Int32))) fun v311 =>
  Option.bind (isO h307 1 k2_8) fun ob312 =>
  b2 (F_X4_hasMoment ob312 v309 v310 v311 h307) fun v314 h313 =>
  Option.bind (isO h313 1 k2_8) fun ob315 =>
  Option.bind (F_X4_thrown ob315 h313) fun v316 =>
  if v316 = v308 then (
    if v308 = 0 then (
      Option.bind (aldJ h313 4 k3_8 (0 : Int32)) fun v319 =>
      if (lg_cmp v319 (if v314 = 0 then (0 : Int64) else (1 : Int64))) = 0 then (
        some (.inl ((x4_8 + (5 : Int32)), h313))
      ) else (
        none
      )
    ) else (
      some (.inl ((x4_8 + (5 : Int32)), h313))
    )
  ) else (
    none
  )
set_option maxHeartbeats 4000000 in
theorem w_L_law_A1524 {p : Program} {l : Launch} {e : Env} {R : Room} {s : State} {m : MethodId} {args : Array Value} {below : List Frame} {meth : Method} {c : Code} {Q : State → Prop} {D : va_G} {dA : Nat → ClassId} {h0 : HH} (hl : l.stackTraces = false) (X : FX p l s m args meth R c cL_law 8 "FerryClocksLaw" D dA h0 []) (hRf : R.frames = 8192) (hRl : R.locals = 100000) (a1 : Option Nat) (k1_8 : Option Nat) (k2_8 : Option Nat) (k3_8 : Option Nat) (x4_8 : Int32) (h_8 : HH) (o : (Int32 × HH) ⊕ HH) : F_L_law_A1524 a1 k1_8 k2_8 k3_8 x4_8 h_8 = some o → (∀ y, o = .inl y → (fun z => G p l e R s m args below meth c Q D dA h0 8 z.2 23 [some (va_rf a1), some (va_rf k1_8), some (va_rf k2_8), some (va_rf k3_8), some (.int z.1), none, none, none] []) y) → (∀ r, o = .inr r → (fun z => G p l e R s m args below meth c Q D dA h0 8 z 3168 [none, none, none, none, none, none, none, none] []) r) → G p l e R s m args below meth c Q D dA h0 8 h_8 1524 [some (va_rf a1), some (va_rf k1_8), some (va_rf k2_8), some (va_rf k3_8), some (.int x4_8), none, none, none] [] := by
  intro hF hgo hr
  unfold F_L_law_A1524 at hF
  refine g_aload_n X dL_law_1524 rfl rfl ?_
  refine g_aload_n X dL_law_1525 rfl rfl ?_
  refine g_iload X dL_law_1526 rfl ?_
  refine g_iconst (v := (1 : Int32)) X dL_law_1528 (by decide) ?_
  refine g_iadd X dL_law_1529 ?_
  obtain ⟨v304, ev304, hF⟩ := bnd hF
  refine g_iald X ev304 dL_law_1530 ?_
  refine g_aload_n X dL_law_1531 rfl rfl ?_
  refine g_iload X dL_law_1532 rfl ?_
  refine g_iconst (v := (2 : Int32)) X dL_law_1534 (by decide) ?_
  refine g_iadd X dL_law_1535 ?_
  obtain ⟨v305, ev305, hF⟩ := bnd hF
  refine g_iald X ev305 dL_law_1536 ?_
  refine g_aload_n X dL_law_1537 rfl rfl ?_
  refine g_iload X dL_law_1538 rfl ?_
  refine g_iconst (v := (3 : Int32)) X dL_law_1540 (by decide) ?_
  refine g_iadd X dL_law_1541 ?_
  obtain ⟨v306, ev306, hF⟩ := bnd hF
  refine g_iald X ev306 dL_law_1542 ?_
  refine g_aload_n X dL_law_1543 rfl rfl ?_
  obtain ⟨v308, h307, eh307, hF⟩ := b2_some hF
  refine g_callS X (w_X0_hasMoment l hl D dA h_8 k1_8 v304 v305 v306 k3_8 v308 h307 eh307) q1281 q1282 q91 q1283 okn_X0_hasMoment ⟨by rw [hRf]; exact Nat.le_of_ble_eq_true rfl, by rw [hRl]; exact Nat.le_of_ble_eq_true rfl⟩ (As := [va_rf k1_8, .int v304, .int v305, .int v306, va_rf k3_8]) (rest := []) rfl (by first | exact Nat.le_of_ble_eq_true rfl | simp [cat_rf, cat_i, cat_j, cat_f, cat_d]) dL_law_1544 (ac_v ?_)
  refine g_istore (L' := [some (va_rf a1), some (va_rf k1_8), some (va_rf k2_8), some (va_rf k3_8), some (.int x4_8), some (.int v308), none, none]) X dL_law_1547 (Nat.le_of_ble_eq_true rfl) (by first | rfl | simp [stL, rm1, clr2, cat_rf, cat_i, cat_j, cat_f, cat_d]) ?_
  refine g_aload_n X dL_law_1549 rfl rfl ?_
  refine g_aload_n X dL_law_1550 rfl rfl ?_
  refine g_iload X dL_law_1551 rfl ?_
  refine g_iconst (v := (1 : Int32)) X dL_law_1553 (by decide) ?_
  refine g_iadd X dL_law_1554 ?_
  obtain ⟨v309, ev309, hF⟩ := bnd hF
  refine g_iald X ev309 dL_law_1555 ?_
  refine g_aload_n X dL_law_1556 rfl rfl ?_
  refine g_iload X dL_law_1557 rfl ?_
  refine g_iconst (v := (2 : Int32)) X dL_law_1559 (by decide) ?_
  refine g_iadd X dL_law_1560 ?_
  obtain ⟨v310, ev310, hF⟩ := bnd hF
  refine g_iald X ev310 dL_law_1561 ?_
  refine g_aload_n X dL_law_1562 rfl rfl ?_
  refine g_iload X dL_law_1563 rfl ?_
  refine g_iconst (v := (3 : Int32)) X dL_law_1565 (by decide) ?_
  refine g_iadd X dL_law_1566 ?_
  obtain ⟨v311, ev311, hF⟩ := bnd hF
  refine g_iald X ev311 dL_law_1567 ?_
  obtain ⟨ob312, eob312, hF⟩ := bnd hF
  obtain ⟨v314, h313, eh313, hF⟩ := b2_some hF
  refine g_callV X eob312 rfl rfl (w_X4_hasMoment l hl D dA h307 ob312 v309 v310 v311 v314 h313 eh313) q2104 q2105 q2106 q103 q2107 okn_X4_hasMoment ⟨by rw [hRf]; exact Nat.le_of_ble_eq_true rfl, by rw [hRl]; exact Nat.le_of_ble_eq_true rfl⟩ (As := [.int v309, .int v310, .int v311]) (rest := []) rfl (by first | exact Nat.le_of_ble_eq_true rfl | simp [cat_rf, cat_i, cat_j, cat_f, cat_d]) dL_law_1568 (ac_v ?_)
  refine g_istore (L' := [some (va_rf a1), some (va_rf k1_8), some (va_rf k2_8), some (va_rf k3_8), some (.int x4_8), some (.int v308), some (.int v314), none]) X dL_law_1571 (Nat.le_of_ble_eq_true rfl) (by first | rfl | simp [stL, rm1, clr2, cat_rf, cat_i, cat_j, cat_f, cat_d]) ?_
  refine g_aload_n X dL_law_1573 rfl rfl ?_
  obtain ⟨ob315, eob315, hF⟩ := bnd hF
  obtain ⟨v316, ev316, hF⟩ := bnd hF
  refine g_callV X eob315 rfl rfl (w_X4_thrown l hl D dA h313 ob315  v316 ev316) q1851 q1852 q1853 q103 q1854 okn_X4_thrown ⟨by rw [hRf]; exact Nat.le_of_ble_eq_true rfl, by rw [hRl]; exact Nat.le_of_ble_eq_true rfl⟩ (As := []) (rest := []) rfl (by first | exact Nat.le_of_ble_eq_true rfl | simp [cat_rf, cat_i, cat_j, cat_f, cat_d]) dL_law_1574 (ac_v ?_)
  refine g_iload X dL_law_1577 rfl ?_
  refine g_icmp_eq X 1584 dL_law_1579 (by decide) (fun c317 => ?_) (fun c317 => ?_)
  · have hF := (if_pos c317).symm.trans hF
    refine g_iload X dL_law_1584 rfl ?_
    refine g_if_ne X 1608 dL_law_1586 (by decide) (fun c318 => ?_) (fun c318 => ?_)
    · have hF := (if_neg c318).symm.trans hF
      refine g_goto X 3162 dL_law_1608 (by decide) ?_
      refine g_iinc (v := (x4_8 + (5 : Int32))) (L' := [some (va_rf a1), some (va_rf k1_8), some (va_rf k2_8), some (va_rf k3_8), some (.int (x4_8 + (5 : Int32))), some (.int v308), some (.int v314), none]) X dL_law_3162 (Nat.le_of_ble_eq_true rfl) rfl rfl (by first | rfl | simp [stL, rm1, clr2, cat_rf, cat_i, cat_j, cat_f, cat_d]) ?_
      refine g_goto X 23 dL_law_3165 (by decide) ?_
      refine G.drop [true, true, true, true, true, false, false, false] rfl ?_
      cases hF
      exact hgo _ rfl
    · have hF := (if_pos c318).symm.trans hF
      refine g_aload_n X dL_law_1589 rfl rfl ?_
      refine g_iconst (v := (0 : Int32)) X dL_law_1590 (by decide) ?_
      obtain ⟨v319, ev319, hF⟩ := bnd hF
      refine g_lald X ev319 dL_law_1591 ?_
      refine g_iload X dL_law_1592 rfl ?_
      suffices K : G p l e R s m args below meth c Q D dA h0 8 h313 1602 [some (va_rf a1), some (va_rf k1_8), some (va_rf k2_8), some (va_rf k3_8), some (.int x4_8), none, none, none] [.long (if v314 = 0 then (0 : Int64) else (1 : Int64)), .long v319] by
        refine g_if_eq X 1601 dL_law_1594 (by decide) (fun c320 => ?_) (fun c320 => ?_)
        · (try simp only [if_pos c320] at K)
          refine g_lconst (v := (0 : Int64)) X dL_law_1601 (by decide) ?_
          refine G.drop [true, true, true, true, true, false, false, false] rfl ?_
          first | exact K | (simp only [if_pos c320]; exact K)
        · (try simp only [if_neg c320] at K)
          refine g_lconst (v := (1 : Int64)) X dL_law_1597 (by decide) ?_
          refine g_goto X 1602 dL_law_1598 (by decide) ?_
          refine G.drop [true, true, true, true, true, false, false, false] rfl ?_
          first | exact K | (simp only [if_neg c320]; exact K)
      refine g_lcmp X dL_law_1602 ?_
      refine g_if_eq X 1608 dL_law_1603 (by decide) (fun c321 => ?_) (fun c321 => ?_)
      · have hF := (if_pos c321).symm.trans hF
        refine g_goto X 3162 dL_law_1608 (by decide) ?_
        refine g_iinc (v := (x4_8 + (5 : Int32))) (L' := [some (va_rf a1), some (va_rf k1_8), some (va_rf k2_8), some (va_rf k3_8), some (.int (x4_8 + (5 : Int32))), none, none, none]) X dL_law_3162 (Nat.le_of_ble_eq_true rfl) rfl rfl (by first | rfl | simp [stL, rm1, clr2, cat_rf, cat_i, cat_j, cat_f, cat_d]) ?_
        refine g_goto X 23 dL_law_3165 (by decide) ?_
        cases hF
        exact hgo _ rfl
      · have hF := (if_neg c321).symm.trans hF
        cases hF
  · have hF := (if_neg c317).symm.trans hF
    cases hF
def F_L_law_A1611 (a1 : Option Nat) (k1_8 : Option Nat) (k2_8 : Option Nat) (k3_8 : Option Nat) (x4_8 : Int32) (h_8 : HH) : Option ((Int32 × HH) ⊕ HH) :=
  Option.bind (isO h_8 0 k1_8) fun ob322 =>
  b2 (F_X1_moments ob322 h_8) fun v324 h323 =>
  Option.bind (isO h323 1 k2_8) fun ob325 =>
  b2 (F_X4_moments ob325 h323) fun v327 h326 =>
  if v324 = v327 then (
    some (.inl ((x4_8 + (5 : Int32)), h326))
  ) else (
    none
  )
set_option maxHeartbeats 4000000 in
theorem w_L_law_A1611 {p : Program} {l : Launch} {e : Env} {R : Room} {s : State} {m : MethodId} {args : Array Value} {below : List Frame} {meth : Method} {c : Code} {Q : State → Prop} {D : va_G} {dA : Nat → ClassId} {h0 : HH} (hl : l.stackTraces = false) (X : FX p l s m args meth R c cL_law 8 "FerryClocksLaw" D dA h0 []) (hRf : R.frames = 8192) (hRl : R.locals = 100000) (a1 : Option Nat) (k1_8 : Option Nat) (k2_8 : Option Nat) (k3_8 : Option Nat) (x4_8 : Int32) (h_8 : HH) (o : (Int32 × HH) ⊕ HH) : F_L_law_A1611 a1 k1_8 k2_8 k3_8 x4_8 h_8 = some o → (∀ y, o = .inl y → (fun z => G p l e R s m args below meth c Q D dA h0 8 z.2 23 [some (va_rf a1), some (va_rf k1_8), some (va_rf k2_8), some (va_rf k3_8), some (.int z.1), none, none, none] []) y) → (∀ r, o = .inr r → (fun z => G p l e R s m args below meth c Q D dA h0 8 z 3168 [none, none, none, none, none, none, none, none] []) r) → G p l e R s m args below meth c Q D dA h0 8 h_8 1611 [some (va_rf a1), some (va_rf k1_8), some (va_rf k2_8), some (va_rf k3_8), some (.int x4_8), none, none, none] [] := by
  intro hF hgo hr
  unfold F_L_law_A1611 at hF
  refine g_aload_n X dL_law_1611 rfl rfl ?_
  obtain ⟨ob322, eob322, hF⟩ := bnd hF
  obtain ⟨v324, h323, eh323, hF⟩ := b2_some hF
  refine g_callV X eob322 rfl rfl (w_X1_moments l hl D dA h_8 ob322  v324 h323 eh323) q806 q807 q808 q92 q809 okn_X1_moments ⟨by rw [hRf]; exact Nat.le_of_ble_eq_true rfl, by rw [hRl]; exact Nat.le_of_ble_eq_true rfl⟩ (As := []) (rest := []) rfl (by first | exact Nat.le_of_ble_eq_true rfl | simp [cat_rf, cat_i, cat_j, cat_f, cat_d]) dL_law_1612 (ac_v ?_)
  refine g_aload_n X dL_law_1615 rfl rfl ?_
  obtain ⟨ob325, eob325, hF⟩ := bnd hF
  obtain ⟨v327, h326, eh326, hF⟩ := b2_some hF
  refine g_callV X eob325 rfl rfl (w_X4_moments l hl D dA h323 ob325  v327 h326 eh326) q2114 q2115 q2116 q103 q2117 okn_X4_moments ⟨by rw [hRf]; exact Nat.le_of_ble_eq_true rfl, by rw [hRl]; exact Nat.le_of_ble_eq_true rfl⟩ (As := []) (rest := [.int v324]) rfl (by first | exact Nat.le_of_ble_eq_true rfl | simp [cat_rf, cat_i, cat_j, cat_f, cat_d]) dL_law_1616 (ac_v ?_)
  refine g_icmp_eq X 3162 dL_law_1619 (by decide) (fun c328 => ?_) (fun c328 => ?_)
  · have hF := (if_pos c328).symm.trans hF
    refine g_iinc (v := (x4_8 + (5 : Int32))) (L' := [some (va_rf a1), some (va_rf k1_8), some (va_rf k2_8), some (va_rf k3_8), some (.int (x4_8 + (5 : Int32))), none, none, none]) X dL_law_3162 (Nat.le_of_ble_eq_true rfl) rfl rfl (by first | rfl | simp [stL, rm1, clr2, cat_rf, cat_i, cat_j, cat_f, cat_d]) ?_
    refine g_goto X 23 dL_law_3165 (by decide) ?_
    cases hF
    exact hgo _ rfl
  · have hF := (if_neg c328).symm.trans hF
    cases hF
def F_L_law_A1624 (a1 : Option Nat) (k1_8 : Option Nat) (k2_8 : Option Nat) (k3_8 : Option Nat) (x4_8 : Int32) (h_8 : HH) : Option ((Int32 × HH) ⊕ HH) :=
  Option.bind (isO h_8 0 k1_8) fun ob329 =>
  b2 (F_X1_momentsTightened ob329 h_8) fun v331 h330 =>
  Option.bind (isO h330 1 k2_8) fun ob332 =>
  b2 (F_X4_momentsTightened ob332 h330) fun v334 h333 =>
  if v331 = v334 then (
    some (.inl ((x4_8 + (5 : Int32)), h333))
  ) else (
    none
  )
set_option maxHeartbeats 4000000 in
theorem w_L_law_A1624 {p : Program} {l : Launch} {e : Env} {R : Room} {s : State} {m : MethodId} {args : Array Value} {below : List Frame} {meth : Method} {c : Code} {Q : State → Prop} {D : va_G} {dA : Nat → ClassId} {h0 : HH} (hl : l.stackTraces = false) (X : FX p l s m args meth R c cL_law 8 "FerryClocksLaw" D dA h0 []) (hRf : R.frames = 8192) (hRl : R.locals = 100000) (a1 : Option Nat) (k1_8 : Option Nat) (k2_8 : Option Nat) (k3_8 : Option Nat) (x4_8 : Int32) (h_8 : HH) (o : (Int32 × HH) ⊕ HH) : F_L_law_A1624 a1 k1_8 k2_8 k3_8 x4_8 h_8 = some o → (∀ y, o = .inl y → (fun z => G p l e R s m args below meth c Q D dA h0 8 z.2 23 [some (va_rf a1), some (va_rf k1_8), some (va_rf k2_8), some (va_rf k3_8), some (.int z.1), none, none, none] []) y) → (∀ r, o = .inr r → (fun z => G p l e R s m args below meth c Q D dA h0 8 z 3168 [none, none, none, none, none, none, none, none] []) r) → G p l e R s m args below meth c Q D dA h0 8 h_8 1624 [some (va_rf a1), some (va_rf k1_8), some (va_rf k2_8), some (va_rf k3_8), some (.int x4_8), none, none, none] [] := by
  intro hF hgo hr
  unfold F_L_law_A1624 at hF
  refine g_aload_n X dL_law_1624 rfl rfl ?_
  obtain ⟨ob329, eob329, hF⟩ := bnd hF
  obtain ⟨v331, h330, eh330, hF⟩ := b2_some hF
  refine g_callV X eob329 rfl rfl (w_X1_momentsTightened l hl D dA h_8 ob329  v331 h330 eh330) q810 q811 q812 q92 q813 okn_X1_momentsTightened ⟨by rw [hRf]; exact Nat.le_of_ble_eq_true rfl, by rw [hRl]; exact Nat.le_of_ble_eq_true rfl⟩ (As := []) (rest := []) rfl (by first | exact Nat.le_of_ble_eq_true rfl | simp [cat_rf, cat_i, cat_j, cat_f, cat_d]) dL_law_1625 (ac_v ?_)
  refine g_aload_n X dL_law_1628 rfl rfl ?_
  obtain ⟨ob332, eob332, hF⟩ := bnd hF
  obtain ⟨v334, h333, eh333, hF⟩ := b2_some hF
  refine g_callV X eob332 rfl rfl (w_X4_momentsTightened l hl D dA h330 ob332  v334 h333 eh333) q2130 q2131 q2132 q103 q2133 okn_X4_momentsTightened ⟨by rw [hRf]; exact Nat.le_of_ble_eq_true rfl, by rw [hRl]; exact Nat.le_of_ble_eq_true rfl⟩ (As := []) (rest := [.int v331]) rfl (by first | exact Nat.le_of_ble_eq_true rfl | simp [cat_rf, cat_i, cat_j, cat_f, cat_d]) dL_law_1629 (ac_v ?_)
  refine g_icmp_eq X 3162 dL_law_1632 (by decide) (fun c335 => ?_) (fun c335 => ?_)
  · have hF := (if_pos c335).symm.trans hF
    refine g_iinc (v := (x4_8 + (5 : Int32))) (L' := [some (va_rf a1), some (va_rf k1_8), some (va_rf k2_8), some (va_rf k3_8), some (.int (x4_8 + (5 : Int32))), none, none, none]) X dL_law_3162 (Nat.le_of_ble_eq_true rfl) rfl rfl (by first | rfl | simp [stL, rm1, clr2, cat_rf, cat_i, cat_j, cat_f, cat_d]) ?_
    refine g_goto X 23 dL_law_3165 (by decide) ?_
    cases hF
    exact hgo _ rfl
  · have hF := (if_neg c335).symm.trans hF
    cases hF
def F_L_law_A1637 (a1 : Option Nat) (k1_8 : Option Nat) (k2_8 : Option Nat) (k3_8 : Option Nat) (x4_8 : Int32) (h_8 : HH) : Option ((Int32 × HH) ⊕ HH) :=
  Option.bind (aldI h_8 0 a1 (x4_8 + (1 : Int32))) fun v336 =>
  b2 (F_X0_leastOf k1_8 v336 k3_8 h_8) fun v338 h337 =>
  Option.bind (aldI h337 0 a1 (x4_8 + (1 : Int32))) fun v339 =>
  Option.bind (isO h337 1 k2_8) fun ob340 =>
  b2 (F_X4_leastOf ob340 v339 h337) fun v342 h341 =>
  Option.bind (isO h341 1 k2_8) fun ob343 =>
  Option.bind (F_X4_thrown ob343 h341) fun v344 =>
  if v344 = v338 then (
    if v338 = 0 then (
      Option.bind (aldJ h341 4 k3_8 (0 : Int32)) fun v347 =>
      if (lg_cmp v347 (v342.toInt64)) = 0 then (
        some (.inl ((x4_8 + (5 : Int32)), h341))
      ) else (
        none
      )
    ) else (
      some (.inl ((x4_8 + (5 : Int32)), h341))
    )
  ) else (
    none
  )
set_option maxHeartbeats 4000000 in
theorem w_L_law_A1637 {p : Program} {l : Launch} {e : Env} {R : Room} {s : State} {m : MethodId} {args : Array Value} {below : List Frame} {meth : Method} {c : Code} {Q : State → Prop} {D : va_G} {dA : Nat → ClassId} {h0 : HH} (hl : l.stackTraces = false) (X : FX p l s m args meth R c cL_law 8 "FerryClocksLaw" D dA h0 []) (hRf : R.frames = 8192) (hRl : R.locals = 100000) (a1 : Option Nat) (k1_8 : Option Nat) (k2_8 : Option Nat) (k3_8 : Option Nat) (x4_8 : Int32) (h_8 : HH) (o : (Int32 × HH) ⊕ HH) : F_L_law_A1637 a1 k1_8 k2_8 k3_8 x4_8 h_8 = some o → (∀ y, o = .inl y → (fun z => G p l e R s m args below meth c Q D dA h0 8 z.2 23 [some (va_rf a1), some (va_rf k1_8), some (va_rf k2_8), some (va_rf k3_8), some (.int z.1), none, none, none] []) y) → (∀ r, o = .inr r → (fun z => G p l e R s m args below meth c Q D dA h0 8 z 3168 [none, none, none, none, none, none, none, none] []) r) → G p l e R s m args below meth c Q D dA h0 8 h_8 1637 [some (va_rf a1), some (va_rf k1_8), some (va_rf k2_8), some (va_rf k3_8), some (.int x4_8), none, none, none] [] := by
  intro hF hgo hr
  unfold F_L_law_A1637 at hF
  refine g_aload_n X dL_law_1637 rfl rfl ?_
  refine g_aload_n X dL_law_1638 rfl rfl ?_
  refine g_iload X dL_law_1639 rfl ?_
  refine g_iconst (v := (1 : Int32)) X dL_law_1641 (by decide) ?_
  refine g_iadd X dL_law_1642 ?_
  obtain ⟨v336, ev336, hF⟩ := bnd hF
  refine g_iald X ev336 dL_law_1643 ?_
  refine g_aload_n X dL_law_1644 rfl rfl ?_
  obtain ⟨v338, h337, eh337, hF⟩ := b2_some hF
  refine g_callS X (w_X0_leastOf l hl D dA h_8 k1_8 v336 k3_8 v338 h337 eh337) q1293 q1294 q91 q1295 okn_X0_leastOf ⟨by rw [hRf]; exact Nat.le_of_ble_eq_true rfl, by rw [hRl]; exact Nat.le_of_ble_eq_true rfl⟩ (As := [va_rf k1_8, .int v336, va_rf k3_8]) (rest := []) rfl (by first | exact Nat.le_of_ble_eq_true rfl | simp [cat_rf, cat_i, cat_j, cat_f, cat_d]) dL_law_1645 (ac_v ?_)
  refine g_istore (L' := [some (va_rf a1), some (va_rf k1_8), some (va_rf k2_8), some (va_rf k3_8), some (.int x4_8), some (.int v338), none, none]) X dL_law_1648 (Nat.le_of_ble_eq_true rfl) (by first | rfl | simp [stL, rm1, clr2, cat_rf, cat_i, cat_j, cat_f, cat_d]) ?_
  refine g_aload_n X dL_law_1650 rfl rfl ?_
  refine g_aload_n X dL_law_1651 rfl rfl ?_
  refine g_iload X dL_law_1652 rfl ?_
  refine g_iconst (v := (1 : Int32)) X dL_law_1654 (by decide) ?_
  refine g_iadd X dL_law_1655 ?_
  obtain ⟨v339, ev339, hF⟩ := bnd hF
  refine g_iald X ev339 dL_law_1656 ?_
  obtain ⟨ob340, eob340, hF⟩ := bnd hF
  obtain ⟨v342, h341, eh341, hF⟩ := b2_some hF
  refine g_callV X eob340 rfl rfl (w_X4_leastOf l hl D dA h337 ob340 v339 v342 h341 eh341) q2134 q2135 q2136 q103 q2137 okn_X4_leastOf ⟨by rw [hRf]; exact Nat.le_of_ble_eq_true rfl, by rw [hRl]; exact Nat.le_of_ble_eq_true rfl⟩ (As := [.int v339]) (rest := []) rfl (by first | exact Nat.le_of_ble_eq_true rfl | simp [cat_rf, cat_i, cat_j, cat_f, cat_d]) dL_law_1657 (ac_v ?_)
  refine g_istore (L' := [some (va_rf a1), some (va_rf k1_8), some (va_rf k2_8), some (va_rf k3_8), some (.int x4_8), some (.int v338), some (.int v342), none]) X dL_law_1660 (Nat.le_of_ble_eq_true rfl) (by first | rfl | simp [stL, rm1, clr2, cat_rf, cat_i, cat_j, cat_f, cat_d]) ?_
  refine g_aload_n X dL_law_1662 rfl rfl ?_
  obtain ⟨ob343, eob343, hF⟩ := bnd hF
  obtain ⟨v344, ev344, hF⟩ := bnd hF
  refine g_callV X eob343 rfl rfl (w_X4_thrown l hl D dA h341 ob343  v344 ev344) q1851 q1852 q1853 q103 q1854 okn_X4_thrown ⟨by rw [hRf]; exact Nat.le_of_ble_eq_true rfl, by rw [hRl]; exact Nat.le_of_ble_eq_true rfl⟩ (As := []) (rest := []) rfl (by first | exact Nat.le_of_ble_eq_true rfl | simp [cat_rf, cat_i, cat_j, cat_f, cat_d]) dL_law_1663 (ac_v ?_)
  refine g_iload X dL_law_1666 rfl ?_
  refine g_icmp_eq X 1673 dL_law_1668 (by decide) (fun c345 => ?_) (fun c345 => ?_)
  · have hF := (if_pos c345).symm.trans hF
    refine g_iload X dL_law_1673 rfl ?_
    refine g_if_ne X 1690 dL_law_1675 (by decide) (fun c346 => ?_) (fun c346 => ?_)
    · have hF := (if_neg c346).symm.trans hF
      refine g_goto X 3162 dL_law_1690 (by decide) ?_
      refine g_iinc (v := (x4_8 + (5 : Int32))) (L' := [some (va_rf a1), some (va_rf k1_8), some (va_rf k2_8), some (va_rf k3_8), some (.int (x4_8 + (5 : Int32))), some (.int v338), some (.int v342), none]) X dL_law_3162 (Nat.le_of_ble_eq_true rfl) rfl rfl (by first | rfl | simp [stL, rm1, clr2, cat_rf, cat_i, cat_j, cat_f, cat_d]) ?_
      refine g_goto X 23 dL_law_3165 (by decide) ?_
      refine G.drop [true, true, true, true, true, false, false, false] rfl ?_
      cases hF
      exact hgo _ rfl
    · have hF := (if_pos c346).symm.trans hF
      refine g_aload_n X dL_law_1678 rfl rfl ?_
      refine g_iconst (v := (0 : Int32)) X dL_law_1679 (by decide) ?_
      obtain ⟨v347, ev347, hF⟩ := bnd hF
      refine g_lald X ev347 dL_law_1680 ?_
      refine g_iload X dL_law_1681 rfl ?_
      refine g_i2l X dL_law_1683 ?_
      refine g_lcmp X dL_law_1684 ?_
      refine g_if_eq X 1690 dL_law_1685 (by decide) (fun c348 => ?_) (fun c348 => ?_)
      · have hF := (if_pos c348).symm.trans hF
        refine g_goto X 3162 dL_law_1690 (by decide) ?_
        refine g_iinc (v := (x4_8 + (5 : Int32))) (L' := [some (va_rf a1), some (va_rf k1_8), some (va_rf k2_8), some (va_rf k3_8), some (.int (x4_8 + (5 : Int32))), some (.int v338), some (.int v342), none]) X dL_law_3162 (Nat.le_of_ble_eq_true rfl) rfl rfl (by first | rfl | simp [stL, rm1, clr2, cat_rf, cat_i, cat_j, cat_f, cat_d]) ?_
        refine g_goto X 23 dL_law_3165 (by decide) ?_
        refine G.drop [true, true, true, true, true, false, false, false] rfl ?_
        cases hF
        exact hgo _ rfl
      · have hF := (if_neg c348).symm.trans hF
        cases hF
  · have hF := (if_neg c345).symm.trans hF
    cases hF
def F_L_law_A1693 (a1 : Option Nat) (k1_8 : Option Nat) (k2_8 : Option Nat) (k3_8 : Option Nat) (x4_8 : Int32) (h_8 : HH) : Option ((Int32 × HH) ⊕ HH) :=
  Option.bind (aldI h_8 0 a1 (x4_8 + (1 : Int32))) fun v349 =>
  b2 (F_X0_mostOf k1_8 v349 k3_8 h_8) fun v351 h350 =>
  Option.bind (aldI h350 0 a1 (x4_8 + (1 : Int32))) fun v352 =>
  Option.bind (isO h350 1 k2_8) fun ob353 =>
  b2 (F_X4_mostOf ob353 v352 h350) fun v355 h354 =>
  Option.bind (isO h354 1 k2_8) fun ob356 =>
  Option.bind (F_X4_thrown ob356 h354) fun v357 =>
  if v357 = v351 then (
    if v351 = 0 then (
      Option.bind (aldJ h354 4 k3_8 (0 : Int32)) fun v360 =>
      if (lg_cmp v360 (v355.toInt64)) = 0 then (
        some (.inl ((x4_8 + (5 : Int32)), h354))
      ) else (
        none
      )
    ) else (
      some (.inl ((x4_8 + (5 : Int32)), h354))
    )
  ) else (
    none
  )
set_option maxHeartbeats 4000000 in
theorem w_L_law_A1693 {p : Program} {l : Launch} {e : Env} {R : Room} {s : State} {m : MethodId} {args : Array Value} {below : List Frame} {meth : Method} {c : Code} {Q : State → Prop} {D : va_G} {dA : Nat → ClassId} {h0 : HH} (hl : l.stackTraces = false) (X : FX p l s m args meth R c cL_law 8 "FerryClocksLaw" D dA h0 []) (hRf : R.frames = 8192) (hRl : R.locals = 100000) (a1 : Option Nat) (k1_8 : Option Nat) (k2_8 : Option Nat) (k3_8 : Option Nat) (x4_8 : Int32) (h_8 : HH) (o : (Int32 × HH) ⊕ HH) : F_L_law_A1693 a1 k1_8 k2_8 k3_8 x4_8 h_8 = some o → (∀ y, o = .inl y → (fun z => G p l e R s m args below meth c Q D dA h0 8 z.2 23 [some (va_rf a1), some (va_rf k1_8), some (va_rf k2_8), some (va_rf k3_8), some (.int z.1), none, none, none] []) y) → (∀ r, o = .inr r → (fun z => G p l e R s m args below meth c Q D dA h0 8 z 3168 [none, none, none, none, none, none, none, none] []) r) → G p l e R s m args below meth c Q D dA h0 8 h_8 1693 [some (va_rf a1), some (va_rf k1_8), some (va_rf k2_8), some (va_rf k3_8), some (.int x4_8), none, none, none] [] := by
  intro hF hgo hr
  unfold F_L_law_A1693 at hF
  refine g_aload_n X dL_law_1693 rfl rfl ?_
  refine g_aload_n X dL_law_1694 rfl rfl ?_
  refine g_iload X dL_law_1695 rfl ?_
  refine g_iconst (v := (1 : Int32)) X dL_law_1697 (by decide) ?_
  refine g_iadd X dL_law_1698 ?_
  obtain ⟨v349, ev349, hF⟩ := bnd hF
  refine g_iald X ev349 dL_law_1699 ?_
  refine g_aload_n X dL_law_1700 rfl rfl ?_
  obtain ⟨v351, h350, eh350, hF⟩ := b2_some hF
  refine g_callS X (w_X0_mostOf l hl D dA h_8 k1_8 v349 k3_8 v351 h350 eh350) q1301 q1302 q91 q1303 okn_X0_mostOf ⟨by rw [hRf]; exact Nat.le_of_ble_eq_true rfl, by rw [hRl]; exact Nat.le_of_ble_eq_true rfl⟩ (As := [va_rf k1_8, .int v349, va_rf k3_8]) (rest := []) rfl (by first | exact Nat.le_of_ble_eq_true rfl | simp [cat_rf, cat_i, cat_j, cat_f, cat_d]) dL_law_1701 (ac_v ?_)
  refine g_istore (L' := [some (va_rf a1), some (va_rf k1_8), some (va_rf k2_8), some (va_rf k3_8), some (.int x4_8), some (.int v351), none, none]) X dL_law_1704 (Nat.le_of_ble_eq_true rfl) (by first | rfl | simp [stL, rm1, clr2, cat_rf, cat_i, cat_j, cat_f, cat_d]) ?_
  refine g_aload_n X dL_law_1706 rfl rfl ?_
  refine g_aload_n X dL_law_1707 rfl rfl ?_
  refine g_iload X dL_law_1708 rfl ?_
  refine g_iconst (v := (1 : Int32)) X dL_law_1710 (by decide) ?_
  refine g_iadd X dL_law_1711 ?_
  obtain ⟨v352, ev352, hF⟩ := bnd hF
  refine g_iald X ev352 dL_law_1712 ?_
  obtain ⟨ob353, eob353, hF⟩ := bnd hF
  obtain ⟨v355, h354, eh354, hF⟩ := b2_some hF
  refine g_callV X eob353 rfl rfl (w_X4_mostOf l hl D dA h350 ob353 v352 v355 h354 eh354) q2138 q2139 q2140 q103 q2141 okn_X4_mostOf ⟨by rw [hRf]; exact Nat.le_of_ble_eq_true rfl, by rw [hRl]; exact Nat.le_of_ble_eq_true rfl⟩ (As := [.int v352]) (rest := []) rfl (by first | exact Nat.le_of_ble_eq_true rfl | simp [cat_rf, cat_i, cat_j, cat_f, cat_d]) dL_law_1713 (ac_v ?_)
  refine g_istore (L' := [some (va_rf a1), some (va_rf k1_8), some (va_rf k2_8), some (va_rf k3_8), some (.int x4_8), some (.int v351), some (.int v355), none]) X dL_law_1716 (Nat.le_of_ble_eq_true rfl) (by first | rfl | simp [stL, rm1, clr2, cat_rf, cat_i, cat_j, cat_f, cat_d]) ?_
  refine g_aload_n X dL_law_1718 rfl rfl ?_
  obtain ⟨ob356, eob356, hF⟩ := bnd hF
  obtain ⟨v357, ev357, hF⟩ := bnd hF
  refine g_callV X eob356 rfl rfl (w_X4_thrown l hl D dA h354 ob356  v357 ev357) q1851 q1852 q1853 q103 q1854 okn_X4_thrown ⟨by rw [hRf]; exact Nat.le_of_ble_eq_true rfl, by rw [hRl]; exact Nat.le_of_ble_eq_true rfl⟩ (As := []) (rest := []) rfl (by first | exact Nat.le_of_ble_eq_true rfl | simp [cat_rf, cat_i, cat_j, cat_f, cat_d]) dL_law_1719 (ac_v ?_)
  refine g_iload X dL_law_1722 rfl ?_
  refine g_icmp_eq X 1729 dL_law_1724 (by decide) (fun c358 => ?_) (fun c358 => ?_)
  · have hF := (if_pos c358).symm.trans hF
    refine g_iload X dL_law_1729 rfl ?_
    refine g_if_ne X 1746 dL_law_1731 (by decide) (fun c359 => ?_) (fun c359 => ?_)
    · have hF := (if_neg c359).symm.trans hF
      refine g_goto X 3162 dL_law_1746 (by decide) ?_
      refine g_iinc (v := (x4_8 + (5 : Int32))) (L' := [some (va_rf a1), some (va_rf k1_8), some (va_rf k2_8), some (va_rf k3_8), some (.int (x4_8 + (5 : Int32))), some (.int v351), some (.int v355), none]) X dL_law_3162 (Nat.le_of_ble_eq_true rfl) rfl rfl (by first | rfl | simp [stL, rm1, clr2, cat_rf, cat_i, cat_j, cat_f, cat_d]) ?_
      refine g_goto X 23 dL_law_3165 (by decide) ?_
      refine G.drop [true, true, true, true, true, false, false, false] rfl ?_
      cases hF
      exact hgo _ rfl
    · have hF := (if_pos c359).symm.trans hF
      refine g_aload_n X dL_law_1734 rfl rfl ?_
      refine g_iconst (v := (0 : Int32)) X dL_law_1735 (by decide) ?_
      obtain ⟨v360, ev360, hF⟩ := bnd hF
      refine g_lald X ev360 dL_law_1736 ?_
      refine g_iload X dL_law_1737 rfl ?_
      refine g_i2l X dL_law_1739 ?_
      refine g_lcmp X dL_law_1740 ?_
      refine g_if_eq X 1746 dL_law_1741 (by decide) (fun c361 => ?_) (fun c361 => ?_)
      · have hF := (if_pos c361).symm.trans hF
        refine g_goto X 3162 dL_law_1746 (by decide) ?_
        refine g_iinc (v := (x4_8 + (5 : Int32))) (L' := [some (va_rf a1), some (va_rf k1_8), some (va_rf k2_8), some (va_rf k3_8), some (.int (x4_8 + (5 : Int32))), some (.int v351), some (.int v355), none]) X dL_law_3162 (Nat.le_of_ble_eq_true rfl) rfl rfl (by first | rfl | simp [stL, rm1, clr2, cat_rf, cat_i, cat_j, cat_f, cat_d]) ?_
        refine g_goto X 23 dL_law_3165 (by decide) ?_
        refine G.drop [true, true, true, true, true, false, false, false] rfl ?_
        cases hF
        exact hgo _ rfl
      · have hF := (if_neg c361).symm.trans hF
        cases hF
  · have hF := (if_neg c358).symm.trans hF
    cases hF
def F_L_law_A1749 (a1 : Option Nat) (k1_8 : Option Nat) (k2_8 : Option Nat) (k3_8 : Option Nat) (x4_8 : Int32) (h_8 : HH) : Option ((Int32 × HH) ⊕ HH) :=
  Option.bind (aldI h_8 0 a1 (x4_8 + (1 : Int32))) fun v362 =>
  Option.bind (aldI h_8 0 a1 (x4_8 + (2 : Int32))) fun v363 =>
  Option.bind (aldI h_8 0 a1 (x4_8 + (3 : Int32))) fun v364 =>
  b2 (F_X0_longestDelay k1_8 v362 v363 v364 k3_8 h_8) fun v366 h365 =>
  Option.bind (aldI h365 0 a1 (x4_8 + (1 : Int32))) fun v367 =>
  Option.bind (aldI h365 0 a1 (x4_8 + (2 : Int32))) fun v368 =>
  Option.bind (aldI h365 0 a1 (x4_8 + (3 : Int32))) fun v369 =>
  Option.bind (isO h365 1 k2_8) fun ob370 =>
  b2 (F_X4_longestDelay ob370 v367 v368 v369 h365) fun v372 h371 =>
  Option.bind (isO h371 1 k2_8) fun ob373 =>
  Option.bind (F_X4_thrown ob373 h371) fun v374 =>
  if v374 = v366 then (
    if v366 = 0 then (
      Option.bind (aldJ h371 4 k3_8 (0 : Int32)) fun v377 =>
      if (lg_cmp v377 (v372.toInt64)) = 0 then (
        some (.inl ((x4_8 + (5 : Int32)), h371))
      ) else (
        none
      )
    ) else (
      some (.inl ((x4_8 + (5 : Int32)), h371))
    )
  ) else (
    none
  )
set_option maxHeartbeats 4000000 in
theorem w_L_law_A1749 {p : Program} {l : Launch} {e : Env} {R : Room} {s : State} {m : MethodId} {args : Array Value} {below : List Frame} {meth : Method} {c : Code} {Q : State → Prop} {D : va_G} {dA : Nat → ClassId} {h0 : HH} (hl : l.stackTraces = false) (X : FX p l s m args meth R c cL_law 8 "FerryClocksLaw" D dA h0 []) (hRf : R.frames = 8192) (hRl : R.locals = 100000) (a1 : Option Nat) (k1_8 : Option Nat) (k2_8 : Option Nat) (k3_8 : Option Nat) (x4_8 : Int32) (h_8 : HH) (o : (Int32 × HH) ⊕ HH) : F_L_law_A1749 a1 k1_8 k2_8 k3_8 x4_8 h_8 = some o → (∀ y, o = .inl y → (fun z => G p l e R s m args below meth c Q D dA h0 8 z.2 23 [some (va_rf a1), some (va_rf k1_8), some (va_rf k2_8), some (va_rf k3_8), some (.int z.1), none, none, none] []) y) → (∀ r, o = .inr r → (fun z => G p l e R s m args below meth c Q D dA h0 8 z 3168 [none, none, none, none, none, none, none, none] []) r) → G p l e R s m args below meth c Q D dA h0 8 h_8 1749 [some (va_rf a1), some (va_rf k1_8), some (va_rf k2_8), some (va_rf k3_8), some (.int x4_8), none, none, none] [] := by
  intro hF hgo hr
  unfold F_L_law_A1749 at hF
  refine g_aload_n X dL_law_1749 rfl rfl ?_
  refine g_aload_n X dL_law_1750 rfl rfl ?_
  refine g_iload X dL_law_1751 rfl ?_
  refine g_iconst (v := (1 : Int32)) X dL_law_1753 (by decide) ?_
  refine g_iadd X dL_law_1754 ?_
  obtain ⟨v362, ev362, hF⟩ := bnd hF
  refine g_iald X ev362 dL_law_1755 ?_
  refine g_aload_n X dL_law_1756 rfl rfl ?_
  refine g_iload X dL_law_1757 rfl ?_
  refine g_iconst (v := (2 : Int32)) X dL_law_1759 (by decide) ?_
  refine g_iadd X dL_law_1760 ?_
  obtain ⟨v363, ev363, hF⟩ := bnd hF
  refine g_iald X ev363 dL_law_1761 ?_
  refine g_aload_n X dL_law_1762 rfl rfl ?_
  refine g_iload X dL_law_1763 rfl ?_
  refine g_iconst (v := (3 : Int32)) X dL_law_1765 (by decide) ?_
  refine g_iadd X dL_law_1766 ?_
  obtain ⟨v364, ev364, hF⟩ := bnd hF
  refine g_iald X ev364 dL_law_1767 ?_
  refine g_aload_n X dL_law_1768 rfl rfl ?_
  obtain ⟨v366, h365, eh365, hF⟩ := b2_some hF
  refine g_callS X (w_X0_longestDelay l hl D dA h_8 k1_8 v362 v363 v364 k3_8 v366 h365 eh365) q1308 q1309 q91 q1310 okn_X0_longestDelay ⟨by rw [hRf]; exact Nat.le_of_ble_eq_true rfl, by rw [hRl]; exact Nat.le_of_ble_eq_true rfl⟩ (As := [va_rf k1_8, .int v362, .int v363, .int v364, va_rf k3_8]) (rest := []) rfl (by first | exact Nat.le_of_ble_eq_true rfl | simp [cat_rf, cat_i, cat_j, cat_f, cat_d]) dL_law_1769 (ac_v ?_)
  refine g_istore (L' := [some (va_rf a1), some (va_rf k1_8), some (va_rf k2_8), some (va_rf k3_8), some (.int x4_8), some (.int v366), none, none]) X dL_law_1772 (Nat.le_of_ble_eq_true rfl) (by first | rfl | simp [stL, rm1, clr2, cat_rf, cat_i, cat_j, cat_f, cat_d]) ?_
  refine g_aload_n X dL_law_1774 rfl rfl ?_
  refine g_aload_n X dL_law_1775 rfl rfl ?_
  refine g_iload X dL_law_1776 rfl ?_
  refine g_iconst (v := (1 : Int32)) X dL_law_1778 (by decide) ?_
  refine g_iadd X dL_law_1779 ?_
  obtain ⟨v367, ev367, hF⟩ := bnd hF
  refine g_iald X ev367 dL_law_1780 ?_
  refine g_aload_n X dL_law_1781 rfl rfl ?_
  refine g_iload X dL_law_1782 rfl ?_
  refine g_iconst (v := (2 : Int32)) X dL_law_1784 (by decide) ?_
  refine g_iadd X dL_law_1785 ?_
  obtain ⟨v368, ev368, hF⟩ := bnd hF
  refine g_iald X ev368 dL_law_1786 ?_
  refine g_aload_n X dL_law_1787 rfl rfl ?_
  refine g_iload X dL_law_1788 rfl ?_
  refine g_iconst (v := (3 : Int32)) X dL_law_1790 (by decide) ?_
  refine g_iadd X dL_law_1791 ?_
  obtain ⟨v369, ev369, hF⟩ := bnd hF
  refine g_iald X ev369 dL_law_1792 ?_
  obtain ⟨ob370, eob370, hF⟩ := bnd hF
  obtain ⟨v372, h371, eh371, hF⟩ := b2_some hF
  refine g_callV X eob370 rfl rfl (w_X4_longestDelay l hl D dA h365 ob370 v367 v368 v369 v372 h371 eh371) q2142 q2143 q2144 q103 q2145 okn_X4_longestDelay ⟨by rw [hRf]; exact Nat.le_of_ble_eq_true rfl, by rw [hRl]; exact Nat.le_of_ble_eq_true rfl⟩ (As := [.int v367, .int v368, .int v369]) (rest := []) rfl (by first | exact Nat.le_of_ble_eq_true rfl | simp [cat_rf, cat_i, cat_j, cat_f, cat_d]) dL_law_1793 (ac_v ?_)
  refine g_istore (L' := [some (va_rf a1), some (va_rf k1_8), some (va_rf k2_8), some (va_rf k3_8), some (.int x4_8), some (.int v366), some (.int v372), none]) X dL_law_1796 (Nat.le_of_ble_eq_true rfl) (by first | rfl | simp [stL, rm1, clr2, cat_rf, cat_i, cat_j, cat_f, cat_d]) ?_
  refine g_aload_n X dL_law_1798 rfl rfl ?_
  obtain ⟨ob373, eob373, hF⟩ := bnd hF
  obtain ⟨v374, ev374, hF⟩ := bnd hF
  refine g_callV X eob373 rfl rfl (w_X4_thrown l hl D dA h371 ob373  v374 ev374) q1851 q1852 q1853 q103 q1854 okn_X4_thrown ⟨by rw [hRf]; exact Nat.le_of_ble_eq_true rfl, by rw [hRl]; exact Nat.le_of_ble_eq_true rfl⟩ (As := []) (rest := []) rfl (by first | exact Nat.le_of_ble_eq_true rfl | simp [cat_rf, cat_i, cat_j, cat_f, cat_d]) dL_law_1799 (ac_v ?_)
  refine g_iload X dL_law_1802 rfl ?_
  refine g_icmp_eq X 1809 dL_law_1804 (by decide) (fun c375 => ?_) (fun c375 => ?_)
  · have hF := (if_pos c375).symm.trans hF
    refine g_iload X dL_law_1809 rfl ?_
    refine g_if_ne X 1826 dL_law_1811 (by decide) (fun c376 => ?_) (fun c376 => ?_)
    · have hF := (if_neg c376).symm.trans hF
      refine g_goto X 3162 dL_law_1826 (by decide) ?_
      refine g_iinc (v := (x4_8 + (5 : Int32))) (L' := [some (va_rf a1), some (va_rf k1_8), some (va_rf k2_8), some (va_rf k3_8), some (.int (x4_8 + (5 : Int32))), some (.int v366), some (.int v372), none]) X dL_law_3162 (Nat.le_of_ble_eq_true rfl) rfl rfl (by first | rfl | simp [stL, rm1, clr2, cat_rf, cat_i, cat_j, cat_f, cat_d]) ?_
      refine g_goto X 23 dL_law_3165 (by decide) ?_
      refine G.drop [true, true, true, true, true, false, false, false] rfl ?_
      cases hF
      exact hgo _ rfl
    · have hF := (if_pos c376).symm.trans hF
      refine g_aload_n X dL_law_1814 rfl rfl ?_
      refine g_iconst (v := (0 : Int32)) X dL_law_1815 (by decide) ?_
      obtain ⟨v377, ev377, hF⟩ := bnd hF
      refine g_lald X ev377 dL_law_1816 ?_
      refine g_iload X dL_law_1817 rfl ?_
      refine g_i2l X dL_law_1819 ?_
      refine g_lcmp X dL_law_1820 ?_
      refine g_if_eq X 1826 dL_law_1821 (by decide) (fun c378 => ?_) (fun c378 => ?_)
      · have hF := (if_pos c378).symm.trans hF
        refine g_goto X 3162 dL_law_1826 (by decide) ?_
        refine g_iinc (v := (x4_8 + (5 : Int32))) (L' := [some (va_rf a1), some (va_rf k1_8), some (va_rf k2_8), some (va_rf k3_8), some (.int (x4_8 + (5 : Int32))), some (.int v366), some (.int v372), none]) X dL_law_3162 (Nat.le_of_ble_eq_true rfl) rfl rfl (by first | rfl | simp [stL, rm1, clr2, cat_rf, cat_i, cat_j, cat_f, cat_d]) ?_
        refine g_goto X 23 dL_law_3165 (by decide) ?_
        refine G.drop [true, true, true, true, true, false, false, false] rfl ?_
        cases hF
        exact hgo _ rfl
      · have hF := (if_neg c378).symm.trans hF
        cases hF
  · have hF := (if_neg c375).symm.trans hF
    cases hF
def F_L_law_A1829 (a1 : Option Nat) (k1_8 : Option Nat) (k2_8 : Option Nat) (k3_8 : Option Nat) (x4_8 : Int32) (h_8 : HH) : Option ((Int32 × HH) ⊕ HH) :=
  b2 (F_X0_needless k1_8 k3_8 h_8) fun v380 h379 =>
  Option.bind (isO h379 1 k2_8) fun ob381 =>
  b2 (F_X4_needless ob381 h379) fun v383 h382 =>
  Option.bind (isO h382 1 k2_8) fun ob384 =>
  Option.bind (F_X4_thrown ob384 h382) fun v385 =>
  if v385 = v380 then (
    if v380 = 0 then (
      Option.bind (aldJ h382 4 k3_8 (0 : Int32)) fun v388 =>
      if (lg_cmp v388 (v383.toInt64)) = 0 then (
        some (.inl ((x4_8 + (5 : Int32)), h382))
      ) else (
        none
      )
    ) else (
      some (.inl ((x4_8 + (5 : Int32)), h382))
    )
  ) else (
    none
  )
set_option maxHeartbeats 4000000 in
theorem w_L_law_A1829 {p : Program} {l : Launch} {e : Env} {R : Room} {s : State} {m : MethodId} {args : Array Value} {below : List Frame} {meth : Method} {c : Code} {Q : State → Prop} {D : va_G} {dA : Nat → ClassId} {h0 : HH} (hl : l.stackTraces = false) (X : FX p l s m args meth R c cL_law 8 "FerryClocksLaw" D dA h0 []) (hRf : R.frames = 8192) (hRl : R.locals = 100000) (a1 : Option Nat) (k1_8 : Option Nat) (k2_8 : Option Nat) (k3_8 : Option Nat) (x4_8 : Int32) (h_8 : HH) (o : (Int32 × HH) ⊕ HH) : F_L_law_A1829 a1 k1_8 k2_8 k3_8 x4_8 h_8 = some o → (∀ y, o = .inl y → (fun z => G p l e R s m args below meth c Q D dA h0 8 z.2 23 [some (va_rf a1), some (va_rf k1_8), some (va_rf k2_8), some (va_rf k3_8), some (.int z.1), none, none, none] []) y) → (∀ r, o = .inr r → (fun z => G p l e R s m args below meth c Q D dA h0 8 z 3168 [none, none, none, none, none, none, none, none] []) r) → G p l e R s m args below meth c Q D dA h0 8 h_8 1829 [some (va_rf a1), some (va_rf k1_8), some (va_rf k2_8), some (va_rf k3_8), some (.int x4_8), none, none, none] [] := by
  intro hF hgo hr
  unfold F_L_law_A1829 at hF
  refine g_aload_n X dL_law_1829 rfl rfl ?_
  refine g_aload_n X dL_law_1830 rfl rfl ?_
  obtain ⟨v380, h379, eh379, hF⟩ := b2_some hF
  refine g_callS X (w_X0_needless l hl D dA h_8 k1_8 k3_8 v380 h379 eh379) q1320 q1321 q91 q1322 okn_X0_needless ⟨by rw [hRf]; exact Nat.le_of_ble_eq_true rfl, by rw [hRl]; exact Nat.le_of_ble_eq_true rfl⟩ (As := [va_rf k1_8, va_rf k3_8]) (rest := []) rfl (by first | exact Nat.le_of_ble_eq_true rfl | simp [cat_rf, cat_i, cat_j, cat_f, cat_d]) dL_law_1831 (ac_v ?_)
  refine g_istore (L' := [some (va_rf a1), some (va_rf k1_8), some (va_rf k2_8), some (va_rf k3_8), some (.int x4_8), some (.int v380), none, none]) X dL_law_1834 (Nat.le_of_ble_eq_true rfl) (by first | rfl | simp [stL, rm1, clr2, cat_rf, cat_i, cat_j, cat_f, cat_d]) ?_
  refine g_aload_n X dL_law_1836 rfl rfl ?_
  obtain ⟨ob381, eob381, hF⟩ := bnd hF
  obtain ⟨v383, h382, eh382, hF⟩ := b2_some hF
  refine g_callV X eob381 rfl rfl (w_X4_needless l hl D dA h379 ob381  v383 h382 eh382) q2147 q2148 q2149 q103 q2150 okn_X4_needless ⟨by rw [hRf]; exact Nat.le_of_ble_eq_true rfl, by rw [hRl]; exact Nat.le_of_ble_eq_true rfl⟩ (As := []) (rest := []) rfl (by first | exact Nat.le_of_ble_eq_true rfl | simp [cat_rf, cat_i, cat_j, cat_f, cat_d]) dL_law_1837 (ac_v ?_)
  refine g_istore (L' := [some (va_rf a1), some (va_rf k1_8), some (va_rf k2_8), some (va_rf k3_8), some (.int x4_8), some (.int v380), some (.int v383), none]) X dL_law_1840 (Nat.le_of_ble_eq_true rfl) (by first | rfl | simp [stL, rm1, clr2, cat_rf, cat_i, cat_j, cat_f, cat_d]) ?_
  refine g_aload_n X dL_law_1842 rfl rfl ?_
  obtain ⟨ob384, eob384, hF⟩ := bnd hF
  obtain ⟨v385, ev385, hF⟩ := bnd hF
  refine g_callV X eob384 rfl rfl (w_X4_thrown l hl D dA h382 ob384  v385 ev385) q1851 q1852 q1853 q103 q1854 okn_X4_thrown ⟨by rw [hRf]; exact Nat.le_of_ble_eq_true rfl, by rw [hRl]; exact Nat.le_of_ble_eq_true rfl⟩ (As := []) (rest := []) rfl (by first | exact Nat.le_of_ble_eq_true rfl | simp [cat_rf, cat_i, cat_j, cat_f, cat_d]) dL_law_1843 (ac_v ?_)
  refine g_iload X dL_law_1846 rfl ?_
  refine g_icmp_eq X 1853 dL_law_1848 (by decide) (fun c386 => ?_) (fun c386 => ?_)
  · have hF := (if_pos c386).symm.trans hF
    refine g_iload X dL_law_1853 rfl ?_
    refine g_if_ne X 1870 dL_law_1855 (by decide) (fun c387 => ?_) (fun c387 => ?_)
    · have hF := (if_neg c387).symm.trans hF
      refine g_goto X 3162 dL_law_1870 (by decide) ?_
      refine g_iinc (v := (x4_8 + (5 : Int32))) (L' := [some (va_rf a1), some (va_rf k1_8), some (va_rf k2_8), some (va_rf k3_8), some (.int (x4_8 + (5 : Int32))), some (.int v380), some (.int v383), none]) X dL_law_3162 (Nat.le_of_ble_eq_true rfl) rfl rfl (by first | rfl | simp [stL, rm1, clr2, cat_rf, cat_i, cat_j, cat_f, cat_d]) ?_
      refine g_goto X 23 dL_law_3165 (by decide) ?_
      refine G.drop [true, true, true, true, true, false, false, false] rfl ?_
      cases hF
      exact hgo _ rfl
    · have hF := (if_pos c387).symm.trans hF
      refine g_aload_n X dL_law_1858 rfl rfl ?_
      refine g_iconst (v := (0 : Int32)) X dL_law_1859 (by decide) ?_
      obtain ⟨v388, ev388, hF⟩ := bnd hF
      refine g_lald X ev388 dL_law_1860 ?_
      refine g_iload X dL_law_1861 rfl ?_
      refine g_i2l X dL_law_1863 ?_
      refine g_lcmp X dL_law_1864 ?_
      refine g_if_eq X 1870 dL_law_1865 (by decide) (fun c389 => ?_) (fun c389 => ?_)
      · have hF := (if_pos c389).symm.trans hF
        refine g_goto X 3162 dL_law_1870 (by decide) ?_
        refine g_iinc (v := (x4_8 + (5 : Int32))) (L' := [some (va_rf a1), some (va_rf k1_8), some (va_rf k2_8), some (va_rf k3_8), some (.int (x4_8 + (5 : Int32))), some (.int v380), some (.int v383), none]) X dL_law_3162 (Nat.le_of_ble_eq_true rfl) rfl rfl (by first | rfl | simp [stL, rm1, clr2, cat_rf, cat_i, cat_j, cat_f, cat_d]) ?_
        refine g_goto X 23 dL_law_3165 (by decide) ?_
        refine G.drop [true, true, true, true, true, false, false, false] rfl ?_
        cases hF
        exact hgo _ rfl
      · have hF := (if_neg c389).symm.trans hF
        cases hF
  · have hF := (if_neg c386).symm.trans hF
    cases hF
def F_L_law_A1873 (a1 : Option Nat) (k1_8 : Option Nat) (k2_8 : Option Nat) (k3_8 : Option Nat) (x4_8 : Int32) (h_8 : HH) : Option ((Int32 × HH) ⊕ HH) :=
  Option.bind (aldI h_8 0 a1 (x4_8 + (1 : Int32))) fun v390 =>
  b2 (F_X0_isShelfEmpty k1_8 v390 k3_8 h_8) fun v392 h391 =>
  Option.bind (aldI h391 0 a1 (x4_8 + (1 : Int32))) fun v393 =>
  Option.bind (isO h391 1 k2_8) fun ob394 =>
  b2 (F_X4_isShelfEmpty ob394 v393 h391) fun v396 h395 =>
  Option.bind (isO h395 1 k2_8) fun ob397 =>
  Option.bind (F_X4_thrown ob397 h395) fun v398 =>
  if v398 = v392 then (
    if v392 = 0 then (
      Option.bind (aldJ h395 4 k3_8 (0 : Int32)) fun v401 =>
      if (lg_cmp v401 (if v396 = 0 then (0 : Int64) else (1 : Int64))) = 0 then (
        some (.inl ((x4_8 + (5 : Int32)), h395))
      ) else (
        none
      )
    ) else (
      some (.inl ((x4_8 + (5 : Int32)), h395))
    )
  ) else (
    none
  )
set_option maxHeartbeats 4000000 in
theorem w_L_law_A1873 {p : Program} {l : Launch} {e : Env} {R : Room} {s : State} {m : MethodId} {args : Array Value} {below : List Frame} {meth : Method} {c : Code} {Q : State → Prop} {D : va_G} {dA : Nat → ClassId} {h0 : HH} (hl : l.stackTraces = false) (X : FX p l s m args meth R c cL_law 8 "FerryClocksLaw" D dA h0 []) (hRf : R.frames = 8192) (hRl : R.locals = 100000) (a1 : Option Nat) (k1_8 : Option Nat) (k2_8 : Option Nat) (k3_8 : Option Nat) (x4_8 : Int32) (h_8 : HH) (o : (Int32 × HH) ⊕ HH) : F_L_law_A1873 a1 k1_8 k2_8 k3_8 x4_8 h_8 = some o → (∀ y, o = .inl y → (fun z => G p l e R s m args below meth c Q D dA h0 8 z.2 23 [some (va_rf a1), some (va_rf k1_8), some (va_rf k2_8), some (va_rf k3_8), some (.int z.1), none, none, none] []) y) → (∀ r, o = .inr r → (fun z => G p l e R s m args below meth c Q D dA h0 8 z 3168 [none, none, none, none, none, none, none, none] []) r) → G p l e R s m args below meth c Q D dA h0 8 h_8 1873 [some (va_rf a1), some (va_rf k1_8), some (va_rf k2_8), some (va_rf k3_8), some (.int x4_8), none, none, none] [] := by
  intro hF hgo hr
  unfold F_L_law_A1873 at hF
  refine g_aload_n X dL_law_1873 rfl rfl ?_
  refine g_aload_n X dL_law_1874 rfl rfl ?_
  refine g_iload X dL_law_1875 rfl ?_
  refine g_iconst (v := (1 : Int32)) X dL_law_1877 (by decide) ?_
  refine g_iadd X dL_law_1878 ?_
  obtain ⟨v390, ev390, hF⟩ := bnd hF
  refine g_iald X ev390 dL_law_1879 ?_
  refine g_aload_n X dL_law_1880 rfl rfl ?_
  obtain ⟨v392, h391, eh391, hF⟩ := b2_some hF
  refine g_callS X (w_X0_isShelfEmpty l hl D dA h_8 k1_8 v390 k3_8 v392 h391 eh391) q1331 q1332 q91 q1333 okn_X0_isShelfEmpty ⟨by rw [hRf]; exact Nat.le_of_ble_eq_true rfl, by rw [hRl]; exact Nat.le_of_ble_eq_true rfl⟩ (As := [va_rf k1_8, .int v390, va_rf k3_8]) (rest := []) rfl (by first | exact Nat.le_of_ble_eq_true rfl | simp [cat_rf, cat_i, cat_j, cat_f, cat_d]) dL_law_1881 (ac_v ?_)
  refine g_istore (L' := [some (va_rf a1), some (va_rf k1_8), some (va_rf k2_8), some (va_rf k3_8), some (.int x4_8), some (.int v392), none, none]) X dL_law_1884 (Nat.le_of_ble_eq_true rfl) (by first | rfl | simp [stL, rm1, clr2, cat_rf, cat_i, cat_j, cat_f, cat_d]) ?_
  refine g_aload_n X dL_law_1886 rfl rfl ?_
  refine g_aload_n X dL_law_1887 rfl rfl ?_
  refine g_iload X dL_law_1888 rfl ?_
  refine g_iconst (v := (1 : Int32)) X dL_law_1890 (by decide) ?_
  refine g_iadd X dL_law_1891 ?_
  obtain ⟨v393, ev393, hF⟩ := bnd hF
  refine g_iald X ev393 dL_law_1892 ?_
  obtain ⟨ob394, eob394, hF⟩ := bnd hF
  obtain ⟨v396, h395, eh395, hF⟩ := b2_some hF
  refine g_callV X eob394 rfl rfl (w_X4_isShelfEmpty l hl D dA h391 ob394 v393 v396 h395 eh395) q2155 q2156 q2157 q103 q2158 okn_X4_isShelfEmpty ⟨by rw [hRf]; exact Nat.le_of_ble_eq_true rfl, by rw [hRl]; exact Nat.le_of_ble_eq_true rfl⟩ (As := [.int v393]) (rest := []) rfl (by first | exact Nat.le_of_ble_eq_true rfl | simp [cat_rf, cat_i, cat_j, cat_f, cat_d]) dL_law_1893 (ac_v ?_)
  refine g_istore (L' := [some (va_rf a1), some (va_rf k1_8), some (va_rf k2_8), some (va_rf k3_8), some (.int x4_8), some (.int v392), some (.int v396), none]) X dL_law_1896 (Nat.le_of_ble_eq_true rfl) (by first | rfl | simp [stL, rm1, clr2, cat_rf, cat_i, cat_j, cat_f, cat_d]) ?_
  refine g_aload_n X dL_law_1898 rfl rfl ?_
  obtain ⟨ob397, eob397, hF⟩ := bnd hF
  obtain ⟨v398, ev398, hF⟩ := bnd hF
  refine g_callV X eob397 rfl rfl (w_X4_thrown l hl D dA h395 ob397  v398 ev398) q1851 q1852 q1853 q103 q1854 okn_X4_thrown ⟨by rw [hRf]; exact Nat.le_of_ble_eq_true rfl, by rw [hRl]; exact Nat.le_of_ble_eq_true rfl⟩ (As := []) (rest := []) rfl (by first | exact Nat.le_of_ble_eq_true rfl | simp [cat_rf, cat_i, cat_j, cat_f, cat_d]) dL_law_1899 (ac_v ?_)
  refine g_iload X dL_law_1902 rfl ?_
  refine g_icmp_eq X 1909 dL_law_1904 (by decide) (fun c399 => ?_) (fun c399 => ?_)
  · have hF := (if_pos c399).symm.trans hF
    refine g_iload X dL_law_1909 rfl ?_
    refine g_if_ne X 1933 dL_law_1911 (by decide) (fun c400 => ?_) (fun c400 => ?_)
    · have hF := (if_neg c400).symm.trans hF
      refine g_goto X 3162 dL_law_1933 (by decide) ?_
      refine g_iinc (v := (x4_8 + (5 : Int32))) (L' := [some (va_rf a1), some (va_rf k1_8), some (va_rf k2_8), some (va_rf k3_8), some (.int (x4_8 + (5 : Int32))), some (.int v392), some (.int v396), none]) X dL_law_3162 (Nat.le_of_ble_eq_true rfl) rfl rfl (by first | rfl | simp [stL, rm1, clr2, cat_rf, cat_i, cat_j, cat_f, cat_d]) ?_
      refine g_goto X 23 dL_law_3165 (by decide) ?_
      refine G.drop [true, true, true, true, true, false, false, false] rfl ?_
      cases hF
      exact hgo _ rfl
    · have hF := (if_pos c400).symm.trans hF
      refine g_aload_n X dL_law_1914 rfl rfl ?_
      refine g_iconst (v := (0 : Int32)) X dL_law_1915 (by decide) ?_
      obtain ⟨v401, ev401, hF⟩ := bnd hF
      refine g_lald X ev401 dL_law_1916 ?_
      refine g_iload X dL_law_1917 rfl ?_
      suffices K : G p l e R s m args below meth c Q D dA h0 8 h395 1927 [some (va_rf a1), some (va_rf k1_8), some (va_rf k2_8), some (va_rf k3_8), some (.int x4_8), none, none, none] [.long (if v396 = 0 then (0 : Int64) else (1 : Int64)), .long v401] by
        refine g_if_eq X 1926 dL_law_1919 (by decide) (fun c402 => ?_) (fun c402 => ?_)
        · (try simp only [if_pos c402] at K)
          refine g_lconst (v := (0 : Int64)) X dL_law_1926 (by decide) ?_
          refine G.drop [true, true, true, true, true, false, false, false] rfl ?_
          first | exact K | (simp only [if_pos c402]; exact K)
        · (try simp only [if_neg c402] at K)
          refine g_lconst (v := (1 : Int64)) X dL_law_1922 (by decide) ?_
          refine g_goto X 1927 dL_law_1923 (by decide) ?_
          refine G.drop [true, true, true, true, true, false, false, false] rfl ?_
          first | exact K | (simp only [if_neg c402]; exact K)
      refine g_lcmp X dL_law_1927 ?_
      refine g_if_eq X 1933 dL_law_1928 (by decide) (fun c403 => ?_) (fun c403 => ?_)
      · have hF := (if_pos c403).symm.trans hF
        refine g_goto X 3162 dL_law_1933 (by decide) ?_
        refine g_iinc (v := (x4_8 + (5 : Int32))) (L' := [some (va_rf a1), some (va_rf k1_8), some (va_rf k2_8), some (va_rf k3_8), some (.int (x4_8 + (5 : Int32))), none, none, none]) X dL_law_3162 (Nat.le_of_ble_eq_true rfl) rfl rfl (by first | rfl | simp [stL, rm1, clr2, cat_rf, cat_i, cat_j, cat_f, cat_d]) ?_
        refine g_goto X 23 dL_law_3165 (by decide) ?_
        cases hF
        exact hgo _ rfl
      · have hF := (if_neg c403).symm.trans hF
        cases hF
  · have hF := (if_neg c399).symm.trans hF
    cases hF
