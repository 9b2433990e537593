def F_L_law_B23 (a1 : Option Nat) (k1_8 : Option Nat) (k2_8 : Option Nat) (k3_8 : Option Nat) (x4_8 : Int32) (h_8 : HH) : Option ((Int32 × HH) ⊕ HH) :=
  Option.bind (alen h_8 a1) fun v9 =>
  if (v9 - (5 : Int32)) < x4_8 then (
    some (.inr h_8)
  ) else (
    Option.bind (aldI h_8 0 a1 x4_8) fun v11 =>
    if (v11 &&& (63 : Int32)) = (0 : Int32) then (
      F_L_law_A292 a1 k1_8 k2_8 k3_8 x4_8 h_8
    ) else (
      if (v11 &&& (63 : Int32)) = (1 : Int32) then (
        F_L_law_A379 a1 k1_8 k2_8 k3_8 x4_8 h_8
      ) else (
        if (v11 &&& (63 : Int32)) = (2 : Int32) then (
          F_L_law_A454 a1 k1_8 k2_8 k3_8 x4_8 h_8
        ) else (
          if (v11 &&& (63 : Int32)) = (3 : Int32) then (
            F_L_law_A467 a1 k1_8 k2_8 k3_8 x4_8 h_8
          ) else (
            if (v11 &&& (63 : Int32)) = (4 : Int32) then (
              F_L_law_A511 a1 k1_8 k2_8 k3_8 x4_8 h_8
            ) else (
              if (v11 &&& (63 : Int32)) = (5 : Int32) then (
                F_L_law_A579 a1 k1_8 k2_8 k3_8 x4_8 h_8
              ) else (
                if (v11 &&& (63 : Int32)) = (6 : Int32) then (
                  F_L_law_A623 a1 k1_8 k2_8 k3_8 x4_8 h_8
                ) else (
                  if (v11 &&& (63 : Int32)) = (7 : Int32) then (
                    F_L_law_A667 a1 k1_8 k2_8 k3_8 x4_8 h_8
                  ) else (
                    if (v11 &&& (63 : Int32)) = (8 : Int32) then (
                      F_L_law_A723 a1 k1_8 k2_8 k3_8 x4_8 h_8
                    ) else (
                      if (v11 &&& (63 : Int32)) = (9 : Int32) then (
                        F_L_law_A791 a1 k1_8 k2_8 k3_8 x4_8 h_8
                      ) else (
                        if (v11 &&& (63 : Int32)) = (10 : Int32) then (
                          F_L_law_A859 a1 k1_8 k2_8 k3_8 x4_8 h_8
                        ) else (
                          if (v11 &&& (63 : Int32)) = (11 : Int32) then (
                            F_L_law_A922 a1 k1_8 k2_8 k3_8 x4_8 h_8
                          ) else (
                            if (v11 &&& (63 : Int32)) = (12 : Int32) then (
                              F_L_law_A978 a1 k1_8 k2_8 k3_8 x4_8 h_8
                            ) else (
                              if (v11 &&& (63 : Int32)) = (13 : Int32) then (
                                F_L_law_A1034 a1 k1_8 k2_8 k3_8 x4_8 h_8
                              ) else (
                                if (v11 &&& (63 : Int32)) = (14 : Int32) then (
                                  F_L_law_A1114 a1 k1_8 k2_8 k3_8 x4_8 h_8
                                ) else (
                                  if (v11 &&& (63 : Int32)) = (15 : Int32) then (
                                    F_L_law_A1182 a1 k1_8 k2_8 k3_8 x4_8 h_8
                                  ) else (
                                    if (v11 &&& (63 : Int32)) = (16 : Int32) then (
                                      F_L_law_A1274 a1 k1_8 k2_8 k3_8 x4_8 h_8
                                    ) else (
                                      if (v11 &&& (63 : Int32)) = (17 : Int32) then (
                                        F_L_law_A1349 a1 k1_8 k2_8 k3_8 x4_8 h_8
                                      ) else (
                                        if (v11 &&& (63 : Int32)) = (18 : Int32) then (
                                          F_L_law_A1417 a1 k1_8 k2_8 k3_8 x4_8 h_8
                                        ) else (
                                          if (v11 &&& (63 : Int32)) = (19 : Int32) then (
                                            F_L_law_A1485 a1 k1_8 k2_8 k3_8 x4_8 h_8
                                          ) else (
                                            if (v11 &&& (63 : Int32)) = (20 : Int32) then (
                                              F_L_law_A1498 a1 k1_8 k2_8 k3_8 x4_8 h_8
                                            ) else (
                                              if (v11 &&& (63 : Int32)) = (21 : Int32) then (
                                                F_L_law_A1511 a1 k1_8 k2_8 k3_8 x4_8 h_8
                                              ) else (
                                                if (v11 &&& (63 : Int32)) = (22 : Int32) then (
                                                  F_L_law_A1524 a1 k1_8 k2_8 k3_8 x4_8 h_8
                                                ) else (
                                                  if (v11 &&& (63 : Int32)) = (23 : Int32) then (
                                                    F_L_law_A1611 a1 k1_8 k2_8 k3_8 x4_8 h_8
                                                  ) else (
                                                    if (v11 &&& (63 : Int32)) = (24 : Int32) then (
                                                      F_L_law_A1624 a1 k1_8 k2_8 k3_8 x4_8 h_8
                                                    ) else (
                                                      if (v11 &&& (63 : Int32)) = (25 : Int32) then (
                                                        F_L_law_A1637 a1 k1_8 k2_8 k3_8 x4_8 h_8
                                                      ) else (
                                                        if (v11 &&& (63 : Int32)) = (26 : Int32) then (
                                                          F_L_law_A1693 a1 k1_8 k2_8 k3_8 x4_8 h_8
                                                        ) else (
                                                          if (v11 &&& (63 : Int32)) = (27 : Int32) then (
                                                            F_L_law_A1749 a1 k1_8 k2_8 k3_8 x4_8 h_8
                                                          ) else (
                                                            if (v11 &&& (63 : Int32)) = (28 : Int32) then (
                                                              F_L_law_A1829 a1 k1_8 k2_8 k3_8 x4_8 h_8
                                                            ) else (
                                                              if (v11 &&& (63 : Int32)) = (29 : Int32) then (
                                                                F_L_law_A1873 a1 k1_8 k2_8 k3_8 x4_8 h_8
                                                              ) else (
                                                                if (v11 &&& (63 : Int32)) = (30 : Int32) then (
                                                                  F_L_law_A1936 a1 k1_8 k2_8 k3_8 x4_8 h_8
                                                                ) else (
                                                                  if (v11 &&& (63 : Int32)) = (31 : Int32) then (
                                                                    F_L_law_A1999 a1 k1_8 k2_8 k3_8 x4_8 h_8
                                                                  ) else (
                                                                    if (v11 &&& (63 : Int32)) = (32 : Int32) then (
                                                                      F_L_law_A2055 a1 k1_8 k2_8 k3_8 x4_8 h_8
                                                                    ) else (
                                                                      if (v11 &&& (63 : Int32)) = (33 : Int32) then (
                                                                        F_L_law_A2118 a1 k1_8 k2_8 k3_8 x4_8 h_8
                                                                      ) else (
                                                                        if (v11 &&& (63 : Int32)) = (34 : Int32) then (
                                                                          F_L_law_A2186 a1 k1_8 k2_8 k3_8 x4_8 h_8
                                                                        ) else (
                                                                          if (v11 &&& (63 : Int32)) = (35 : Int32) then (
                                                                            F_L_law_A2199 a1 k1_8 k2_8 k3_8 x4_8 h_8
                                                                          ) else (
                                                                            if (v11 &&& (63 : Int32)) = (36 : Int32) then (
                                                                              F_L_law_A2255 a1 k1_8 k2_8 k3_8 x4_8 h_8
                                                                            ) else (
                                                                              if (v11 &&& (63 : Int32)) = (37 : Int32) then (
                                                                                F_L_law_A2311 a1 k1_8 k2_8 k3_8 x4_8 h_8
                                                                              ) else (
                                                                                if (v11 &&& (63 : Int32)) = (38 : Int32) then (
                                                                                  F_L_law_A2386 a1 k1_8 k2_8 k3_8 x4_8 h_8
                                                                                ) else (
                                                                                  if (v11 &&& (63 : Int32)) = (39 : Int32) then (
                                                                                    F_L_law_A2430 a1 k1_8 k2_8 k3_8 x4_8 h_8
                                                                                  ) else (
                                                                                    if (v11 &&& (63 : Int32)) = (40 : Int32) then (
                                                                                      F_L_law_A2443 a1 k1_8 k2_8 k3_8 x4_8 h_8
                                                                                    ) else (
                                                                                      if (v11 &&& (63 : Int32)) = (41 : Int32) then (
                                                                                        F_L_law_A2487 a1 k1_8 k2_8 k3_8 x4_8 h_8
                                                                                      ) else (
                                                                                        if (v11 &&& (63 : Int32)) = (42 : Int32) then (
                                                                                          F_L_law_A2543 a1 k1_8 k2_8 k3_8 x4_8 h_8
                                                                                        ) else (
                                                                                          if (v11 &&& (63 : Int32)) = (43 : Int32) then (
                                                                                            F_L_law_A2599 a1 k1_8 k2_8 k3_8 x4_8 h_8
                                                                                          ) else (
                                                                                            if (v11 &&& (63 : Int32)) = (44 : Int32) then (
                                                                                              F_L_law_A2655 a1 k1_8 k2_8 k3_8 x4_8 h_8
                                                                                            ) else (
                                                                                              if (v11 &&& (63 : Int32)) = (45 : Int32) then (
                                                                                                F_L_law_A2668 a1 k1_8 k2_8 k3_8 x4_8 h_8
                                                                                              ) else (
                                                                                                if (v11 &&& (63 : Int32)) = (46 : Int32) then (
                                                                                                  F_L_law_A2681 a1 k1_8 k2_8 k3_8 x4_8 h_8
                                                                                                ) else (
                                                                                                  if (v11 &&& (63 : Int32)) = (47 : Int32) then (
                                                                                                    F_L_law_A2722 a1 k1_8 k2_8 k3_8 x4_8 h_8
                                                                                                  ) else (
                                                                                                    if (v11 &&& (63 : Int32)) = (48 : Int32) then (
                                                                                                      F_L_law_A2735 a1 k1_8 k2_8 k3_8 x4_8 h_8
                                                                                                    ) else (
                                                                                                      if (v11 &&& (63 : Int32)) = (49 : Int32) then (
                                                                                                        F_L_law_A2790 a1 k1_8 k2_8 k3_8 x4_8 h_8
                                                                                                      ) else (
                                                                                                        if (v11 &&& (63 : Int32)) = (50 : Int32) then (
                                                                                                          F_L_law_A2803 a1 k1_8 k2_8 k3_8 x4_8 h_8
                                                                                                        ) else (
                                                                                                          if (v11 &&& (63 : Int32)) = (51 : Int32) then (
                                                                                                            F_L_law_A2816 a1 k1_8 k2_8 k3_8 x4_8 h_8
                                                                                                          ) else (
                                                                                                            if (v11 &&& (63 : Int32)) = (52 : Int32) then (
                                                                                                              F_L_law_A2860 a1 k1_8 k2_8 k3_8 x4_8 h_8
                                                                                                            ) else (
                                                                                                              if (v11 &&& (63 : Int32)) = (53 : Int32) then (
                                                                                                                F_L_law_A2873 a1 k1_8 k2_8 k3_8 x4_8 h_8
                                                                                                              ) else (
                                                                                                                if (v11 &&& (63 : Int32)) = (54 : Int32) then (
                                                                                                                  F_L_law_A2917 a1 k1_8 k2_8 k3_8 x4_8 h_8
                                                                                                                ) else (
                                                                                                                  if (v11 &&& (63 : Int32)) = (55 : Int32) then (
                                                                                                                    F_L_law_A2973 a1 k1_8 k2_8 k3_8 x4_8 h_8
                                                                                                                  ) else (
                                                                                                                    if (v11 &&& (63 : Int32)) = (56 : Int32) then (
                                                                                                                      F_L_law_A2986 a1 k1_8 k2_8 k3_8 x4_8 h_8
                                                                                                                    ) else (
                                                                                                                      if (v11 &&& (63 : Int32)) = (57 : Int32) then (
                                                                                                                        F_L_law_A3030 a1 k1_8 k2_8 k3_8 x4_8 h_8
                                                                                                                      ) else (
                                                                                                                        if (v11 &&& (63 : Int32)) = (58 : Int32) then (
                                                                                                                          F_L_law_A3074 a1 k1_8 k2_8 k3_8 x4_8 h_8
                                                                                                                        ) else (
                                                                                                                          if (v11 &&& (63 : Int32)) = (59 : Int32) then (
                                                                                                                            F_L_law_A3118 a1 k1_8 k2_8 k3_8 x4_8 h_8
                                                                                                                          ) else (
                                                                                                                            some (.inl ((x4_8 + (5 : Int32)), h_8))
                                                                                                                          )
                                                                                                                        )
                                                                                                                      )
                                                                                                                    )
                                                                                                                  )
                                                                                                                )
                                                                                                              )
                                                                                                            )
                                                                                                          )
                                                                                                        )
                                                                                                      )
                                                                                                    )
                                                                                                  )
                                                                                                )
                                                                                              )
                                                                                            )
                                                                                          )
                                                                                        )
                                                                                      )
                                                                                    )
                                                                                  )
                                                                                )
                                                                              )
                                                                            )
                                                                          )
                                                                        )
                                                                      )
                                                                    )
                                                                  )
                                                                )
                                                              )
                                                            )
                                                          )
                                                        )
                                                      )
                                                    )
                                                  )
                                                )
                                              )
                                            )
                                          )
                                        )
                                      )
                                    )
                                  )
                                )
                              )
                            )
                          )
                        )
                      )
                    )
                  )
                )
              )
            )
          )
        )
      )
    )
  )
def F_L_law (a1 : Option Nat) (h0 : HH) : Option HH :=
  Option.bind (newO h0 0 4 [.null, .null, .null, .null]) fun h1 =>
  Option.bind (nnl (some (hSz h0))) fun ob2 =>
  Option.bind (F_X1_init ob2 h1) fun h3 =>
  Option.bind (newO h3 1 29 [.null, .null, .null, .int 0, .null, .int 0, .null, .int 0, .int 0, .null, .null, .int 0, .long 0, .null, .null, .null, .int 0, .null, .null, .int 0, .int 0, .int 0, .int 0, .int 0, .int 0, .int 0, .int 0, .int 0, .int 0]) fun h4 =>
  Option.bind (nnl (some (hSz h3))) fun ob5 =>
  Option.bind (F_X4_init ob5 h4) fun h6 =>
  Option.bind (newA h6 4 (1 : Int32)) fun h7 =>
  Option.bind (lp (fun z => F_L_law_B23 a1 (some (hSz h0)) (some (hSz h3)) (some (hSz h6)) z.1 z.2) 100000 ((0 : Int32), h7)) fun h724 =>
  some h724
set_option maxHeartbeats 8000000 in
theorem w_L_law {p : Program} {l : Launch} {e : Env} {R : Room} {s : State} {m : MethodId} {args : Array Value} {below : List Frame} {meth : Method} {c : Code} {Q : State → Prop} {D : va_G} {dA : Nat → ClassId} {h0 : HH} (hl : l.stackTraces = false) (X : FX p l s m args meth R c cL_law 8 "FerryClocksLaw" D dA h0 []) (hRf : R.frames = 8192) (hRl : R.locals = 100000) (a1 : Option Nat) (hE : HH) (hF : F_L_law a1 h0 = some hE) (hQ : ∀ (pc : Nat) (L : List (Option Value)), decode cL_law pc = .ok (.ireturn, 1) → G p l e R s m args below meth c Q D dA h0 8 hE pc L [.int 1]) : G p l e R s m args below meth c Q D dA h0 8 h0 0 [some (va_rf a1), none, none, none, none, none, none, none] [] := by
  unfold F_L_law at hF
  obtain ⟨h1, eh1, hF⟩ := bnd hF
  refine g_new X in_X1 tyX1 tyX1_ok rfl q126 q127 q92 rfl dv_X1 eh1 dL_law_0 ?_
  refine g_dup X dL_law_3 (cat_rf _) ?_
  obtain ⟨ob2, eob2, hF⟩ := bnd hF
  obtain ⟨h3, eh3, hF⟩ := bnd hF
  refine g_callI X (nnl_some eob2) (w_X1_init l hl D dA h1 ob2  h3 eh3) rfl q128 q129 q92 q130 okn_X1_init ⟨by rw [hRf]; exact Nat.le_of_ble_eq_true rfl, by rw [hRl]; exact Nat.le_of_ble_eq_true rfl⟩ (As := []) (rest := [va_rf (some (hSz h0))]) rfl (by first | exact Nat.le_of_ble_eq_true rfl | simp [cat_rf, cat_i, cat_j, cat_f, cat_d]) dL_law_4 (ac_0 ?_)
  refine g_astore_n (L' := [some (va_rf a1), some (va_rf (some (hSz h0))), none, none, none, none, none, none]) X dL_law_7 rfl (Nat.le_of_ble_eq_true rfl) (by first | rfl | simp [stL, rm1, clr2, cat_rf, cat_i, cat_j, cat_f, cat_d]) ?_
  obtain ⟨h4, eh4, hF⟩ := bnd hF
  refine g_new X in_X4 tyX4 tyX4_ok rfl q1752 q1753 q103 rfl dv_X4 eh4 dL_law_8 ?_
  refine g_dup X dL_law_11 (cat_rf _) ?_
  obtain ⟨ob5, eob5, hF⟩ := bnd hF
  obtain ⟨h6, eh6, hF⟩ := bnd hF
  refine g_callI X (nnl_some eob5) (w_X4_init l hl D dA h4 ob5  h6 eh6) rfl q1754 q1755 q103 q1756 okn_X4_init ⟨by rw [hRf]; exact Nat.le_of_ble_eq_true rfl, by rw [hRl]; exact Nat.le_of_ble_eq_true rfl⟩ (As := []) (rest := [va_rf (some (hSz h3))]) rfl (by first | exact Nat.le_of_ble_eq_true rfl | simp [cat_rf, cat_i, cat_j, cat_f, cat_d]) dL_law_12 (ac_0 ?_)
  refine g_astore_n (L' := [some (va_rf a1), some (va_rf (some (hSz h0))), some (va_rf (some (hSz h3))), none, none, none, none, none]) X dL_law_15 rfl (Nat.le_of_ble_eq_true rfl) (by first | rfl | simp [stL, rm1, clr2, cat_rf, cat_i, cat_j, cat_f, cat_d]) ?_
  refine g_iconst (v := (1 : Int32)) X dL_law_16 (by decide) ?_
  obtain ⟨h7, eh7, hF⟩ := bnd hF
  refine g_newa (atype := .long) (t := 4) X q2387 rfl (funext fun _ => rfl) (by decide) eh7 dL_law_17 ?_
  refine g_astore_n (L' := [some (va_rf a1), some (va_rf (some (hSz h0))), some (va_rf (some (hSz h3))), some (va_rf (some (hSz h6))), none, none, none, none]) X dL_law_19 rfl (Nat.le_of_ble_eq_true rfl) (by first | rfl | simp [stL, rm1, clr2, cat_rf, cat_i, cat_j, cat_f, cat_d]) ?_
  refine g_iconst (v := (0 : Int32)) X dL_law_20 (by decide) ?_
  refine g_istore (L' := [some (va_rf a1), some (va_rf (some (hSz h0))), some (va_rf (some (hSz h3))), some (va_rf (some (hSz h6))), some (.int (0 : Int32)), none, none, none]) X dL_law_21 (Nat.le_of_ble_eq_true rfl) (by first | rfl | simp [stL, rm1, clr2, cat_rf, cat_i, cat_j, cat_f, cat_d]) ?_
  obtain ⟨h724, e725, hF⟩ := bnd hF
  refine lp_ind (Gs := (fun z => G p l e R s m args below meth c Q D dA h0 8 z.2 23 [some (va_rf a1), some (va_rf (some (hSz h0))), some (va_rf (some (hSz h3))), some (va_rf (some (hSz h6))), some (.int z.1), none, none, none] [])) (Ge := (fun z => G p l e R s m args below meth c Q D dA h0 8 z 3168 [none, none, none, none, none, none, none, none] [])) ?_ _ _ _ e725 ?_
  · rintro ⟨x4_8, h_8⟩ o hF hgo hr
    change F_L_law_B23 a1 (some (hSz h0)) (some (hSz h3)) (some (hSz h6)) x4_8 h_8 = some o at hF
    generalize (some (hSz h0)) = k1_8 at hF hgo hr ⊢
    generalize (some (hSz h3)) = k2_8 at hF hgo hr ⊢
    generalize (some (hSz h6)) = k3_8 at hF hgo hr ⊢
    unfold F_L_law_B23 at hF
    show G p l e R s m args below meth c Q D dA h0 8 h_8 23 [some (va_rf a1), some (va_rf k1_8), some (va_rf k2_8), some (va_rf k3_8), some (.int x4_8), none, none, none] []
    refine g_iload X dL_law_23 rfl ?_
    refine g_aload_n X dL_law_25 rfl rfl ?_
    obtain ⟨v9, ev9, hF⟩ := bnd hF
    refine g_alen X ev9 dL_law_26 ?_
    refine g_iconst (v := (5 : Int32)) X dL_law_27 (by decide) ?_
    refine g_isub X dL_law_28 ?_
    refine g_icmp_gt X 3168 dL_law_29 (by decide) (fun c10 => ?_) (fun c10 => ?_)
    · have hF := (if_pos c10).symm.trans hF
      refine G.drop [false, false, false, false, false, false, false, false] rfl ?_
      cases hF
      exact hr _ rfl
    · have hF := (if_neg c10).symm.trans hF
      refine g_aload_n X dL_law_32 rfl rfl ?_
      refine g_iload X dL_law_33 rfl ?_
      obtain ⟨v11, ev11, hF⟩ := bnd hF
      refine g_iald X ev11 dL_law_35 ?_
      refine g_bipush (v := (63 : Int32)) X dL_law_36 (by decide) ?_
      refine g_iand X dL_law_38 ?_
      by_cases sc39_0 : (v11 &&& (63 : Int32)) = (0 : Int32)
      · have hF := (if_pos sc39_0).symm.trans hF
        refine g_tableIn X 292 dL_law_39 (by rw [sc39_0]; decide) (by rw [sc39_0]; decide) (off := 253) (by rw [sc39_0]; rfl) (by decide) ?_
        exact w_L_law_A292 hl X hRf hRl a1 k1_8 k2_8 k3_8 x4_8 h_8 o hF hgo hr
      · have hF := (if_neg sc39_0).symm.trans hF
        by_cases sc39_1 : (v11 &&& (63 : Int32)) = (1 : Int32)
        · have hF := (if_pos sc39_1).symm.trans hF
          refine g_tableIn X 379 dL_law_39 (by rw [sc39_1]; decide) (by rw [sc39_1]; decide) (off := 340) (by rw [sc39_1]; rfl) (by decide) ?_
          exact w_L_law_A379 hl X hRf hRl a1 k1_8 k2_8 k3_8 x4_8 h_8 o hF hgo hr
        · have hF := (if_neg sc39_1).symm.trans hF
          by_cases sc39_2 : (v11 &&& (63 : Int32)) = (2 : Int32)
          · have hF := (if_pos sc39_2).symm.trans hF
            refine g_tableIn X 454 dL_law_39 (by rw [sc39_2]; decide) (by rw [sc39_2]; decide) (off := 415) (by rw [sc39_2]; rfl) (by decide) ?_
            exact w_L_law_A454 hl X hRf hRl a1 k1_8 k2_8 k3_8 x4_8 h_8 o hF hgo hr
          · have hF := (if_neg sc39_2).symm.trans hF
            by_cases sc39_3 : (v11 &&& (63 : Int32)) = (3 : Int32)
            · have hF := (if_pos sc39_3).symm.trans hF
              refine g_tableIn X 467 dL_law_39 (by rw [sc39_3]; decide) (by rw [sc39_3]; decide) (off := 428) (by rw [sc39_3]; rfl) (by decide) ?_
              exact w_L_law_A467 hl X hRf hRl a1 k1_8 k2_8 k3_8 x4_8 h_8 o hF hgo hr
            · have hF := (if_neg sc39_3).symm.trans hF
              by_cases sc39_4 : (v11 &&& (63 : Int32)) = (4 : Int32)
              · have hF := (if_pos sc39_4).symm.trans hF
                refine g_tableIn X 511 dL_law_39 (by rw [sc39_4]; decide) (by rw [sc39_4]; decide) (off := 472) (by rw [sc39_4]; rfl) (by decide) ?_
                exact w_L_law_A511 hl X hRf hRl a1 k1_8 k2_8 k3_8 x4_8 h_8 o hF hgo hr
              · have hF := (if_neg sc39_4).symm.trans hF
                by_cases sc39_5 : (v11 &&& (63 : Int32)) = (5 : Int32)
                · have hF := (if_pos sc39_5).symm.trans hF
                  refine g_tableIn X 579 dL_law_39 (by rw [sc39_5]; decide) (by rw [sc39_5]; decide) (off := 540) (by rw [sc39_5]; rfl) (by decide) ?_
                  exact w_L_law_A579 hl X hRf hRl a1 k1_8 k2_8 k3_8 x4_8 h_8 o hF hgo hr
                · have hF := (if_neg sc39_5).symm.trans hF
                  by_cases sc39_6 : (v11 &&& (63 : Int32)) = (6 : Int32)
                  · have hF := (if_pos sc39_6).symm.trans hF
                    refine g_tableIn X 623 dL_law_39 (by rw [sc39_6]; decide) (by rw [sc39_6]; decide) (off := 584) (by rw [sc39_6]; rfl) (by decide) ?_
                    exact w_L_law_A623 hl X hRf hRl a1 k1_8 k2_8 k3_8 x4_8 h_8 o hF hgo hr
                  · have hF := (if_neg sc39_6).symm.trans hF
                    by_cases sc39_7 : (v11 &&& (63 : Int32)) = (7 : Int32)
                    · have hF := (if_pos sc39_7).symm.trans hF
                      refine g_tableIn X 667 dL_law_39 (by rw [sc39_7]; decide) (by rw [sc39_7]; decide) (off := 628) (by rw [sc39_7]; rfl) (by decide) ?_
                      exact w_L_law_A667 hl X hRf hRl a1 k1_8 k2_8 k3_8 x4_8 h_8 o hF hgo hr
                    · have hF := (if_neg sc39_7).symm.trans hF
                      by_cases sc39_8 : (v11 &&& (63 : Int32)) = (8 : Int32)
                      · have hF := (if_pos sc39_8).symm.trans hF
                        refine g_tableIn X 723 dL_law_39 (by rw [sc39_8]; decide) (by rw [sc39_8]; decide) (off := 684) (by rw [sc39_8]; rfl) (by decide) ?_
                        exact w_L_law_A723 hl X hRf hRl a1 k1_8 k2_8 k3_8 x4_8 h_8 o hF hgo hr
                      · have hF := (if_neg sc39_8).symm.trans hF
                        by_cases sc39_9 : (v11 &&& (63 : Int32)) = (9 : Int32)
                        · have hF := (if_pos sc39_9).symm.trans hF
                          refine g_tableIn X 791 dL_law_39 (by rw [sc39_9]; decide) (by rw [sc39_9]; decide) (off := 752) (by rw [sc39_9]; rfl) (by decide) ?_
                          exact w_L_law_A791 hl X hRf hRl a1 k1_8 k2_8 k3_8 x4_8 h_8 o hF hgo hr
                        · have hF := (if_neg sc39_9).symm.trans hF
                          by_cases sc39_10 : (v11 &&& (63 : Int32)) = (10 : Int32)
                          · have hF := (if_pos sc39_10).symm.trans hF
                            refine g_tableIn X 859 dL_law_39 (by rw [sc39_10]; decide) (by rw [sc39_10]; decide) (off := 820) (by rw [sc39_10]; rfl) (by decide) ?_
                            exact w_L_law_A859 hl X hRf hRl a1 k1_8 k2_8 k3_8 x4_8 h_8 o hF hgo hr
                          · have hF := (if_neg sc39_10).symm.trans hF
                            by_cases sc39_11 : (v11 &&& (63 : Int32)) = (11 : Int32)
                            · have hF := (if_pos sc39_11).symm.trans hF
                              refine g_tableIn X 922 dL_law_39 (by rw [sc39_11]; decide) (by rw [sc39_11]; decide) (off := 883) (by rw [sc39_11]; rfl) (by decide) ?_
                              exact w_L_law_A922 hl X hRf hRl a1 k1_8 k2_8 k3_8 x4_8 h_8 o hF hgo hr
                            · have hF := (if_neg sc39_11).symm.trans hF
                              by_cases sc39_12 : (v11 &&& (63 : Int32)) = (12 : Int32)
                              · have hF := (if_pos sc39_12).symm.trans hF
                                refine g_tableIn X 978 dL_law_39 (by rw [sc39_12]; decide) (by rw [sc39_12]; decide) (off := 939) (by rw [sc39_12]; rfl) (by decide) ?_
                                exact w_L_law_A978 hl X hRf hRl a1 k1_8 k2_8 k3_8 x4_8 h_8 o hF hgo hr
                              · have hF := (if_neg sc39_12).symm.trans hF
                                by_cases sc39_13 : (v11 &&& (63 : Int32)) = (13 : Int32)
                                · have hF := (if_pos sc39_13).symm.trans hF
                                  refine g_tableIn X 1034 dL_law_39 (by rw [sc39_13]; decide) (by rw [sc39_13]; decide) (off := 995) (by rw [sc39_13]; rfl) (by decide) ?_
                                  exact w_L_law_A1034 hl X hRf hRl a1 k1_8 k2_8 k3_8 x4_8 h_8 o hF hgo hr
                                · have hF := (if_neg sc39_13).symm.trans hF
                                  by_cases sc39_14 : (v11 &&& (63 : Int32)) = (14 : Int32)
                                  · have hF := (if_pos sc39_14).symm.trans hF
                                    refine g_tableIn X 1114 dL_law_39 (by rw [sc39_14]; decide) (by rw [sc39_14]; decide) (off := 1075) (by rw [sc39_14]; rfl) (by decide) ?_
                                    exact w_L_law_A1114 hl X hRf hRl a1 k1_8 k2_8 k3_8 x4_8 h_8 o hF hgo hr
                                  · have hF := (if_neg sc39_14).symm.trans hF
                                    by_cases sc39_15 : (v11 &&& (63 : Int32)) = (15 : Int32)
                                    · have hF := (if_pos sc39_15).symm.trans hF
                                      refine g_tableIn X 1182 dL_law_39 (by rw [sc39_15]; decide) (by rw [sc39_15]; decide) (off := 1143) (by rw [sc39_15]; rfl) (by decide) ?_
                                      exact w_L_law_A1182 hl X hRf hRl a1 k1_8 k2_8 k3_8 x4_8 h_8 o hF hgo hr
                                    · have hF := (if_neg sc39_15).symm.trans hF
                                      by_cases sc39_16 : (v11 &&& (63 : Int32)) = (16 : Int32)
                                      · have hF := (if_pos sc39_16).symm.trans hF
                                        refine g_tableIn X 1274 dL_law_39 (by rw [sc39_16]; decide) (by rw [sc39_16]; decide) (off := 1235) (by rw [sc39_16]; rfl) (by decide) ?_
                                        exact w_L_law_A1274 hl X hRf hRl a1 k1_8 k2_8 k3_8 x4_8 h_8 o hF hgo hr
                                      · have hF := (if_neg sc39_16).symm.trans hF
                                        by_cases sc39_17 : (v11 &&& (63 : Int32)) = (17 : Int32)
                                        · have hF := (if_pos sc39_17).symm.trans hF
                                          refine g_tableIn X 1349 dL_law_39 (by rw [sc39_17]; decide) (by rw [sc39_17]; decide) (off := 1310) (by rw [sc39_17]; rfl) (by decide) ?_
                                          exact w_L_law_A1349 hl X hRf hRl a1 k1_8 k2_8 k3_8 x4_8 h_8 o hF hgo hr
                                        · have hF := (if_neg sc39_17).symm.trans hF
                                          by_cases sc39_18 : (v11 &&& (63 : Int32)) = (18 : Int32)
                                          · have hF := (if_pos sc39_18).symm.trans hF
                                            refine g_tableIn X 1417 dL_law_39 (by rw [sc39_18]; decide) (by rw [sc39_18]; decide) (off := 1378) (by rw [sc39_18]; rfl) (by decide) ?_
                                            exact w_L_law_A1417 hl X hRf hRl a1 k1_8 k2_8 k3_8 x4_8 h_8 o hF hgo hr
                                          · have hF := (if_neg sc39_18).symm.trans hF
                                            by_cases sc39_19 : (v11 &&& (63 : Int32)) = (19 : Int32)
                                            · have hF := (if_pos sc39_19).symm.trans hF
                                              refine g_tableIn X 1485 dL_law_39 (by rw [sc39_19]; decide) (by rw [sc39_19]; decide) (off := 1446) (by rw [sc39_19]; rfl) (by decide) ?_
                                              exact w_L_law_A1485 hl X hRf hRl a1 k1_8 k2_8 k3_8 x4_8 h_8 o hF hgo hr
                                            · have hF := (if_neg sc39_19).symm.trans hF
                                              by_cases sc39_20 : (v11 &&& (63 : Int32)) = (20 : Int32)
                                              · have hF := (if_pos sc39_20).symm.trans hF
                                                refine g_tableIn X 1498 dL_law_39 (by rw [sc39_20]; decide) (by rw [sc39_20]; decide) (off := 1459) (by rw [sc39_20]; rfl) (by decide) ?_
                                                exact w_L_law_A1498 hl X hRf hRl a1 k1_8 k2_8 k3_8 x4_8 h_8 o hF hgo hr
                                              · have hF := (if_neg sc39_20).symm.trans hF
                                                by_cases sc39_21 : (v11 &&& (63 : Int32)) = (21 : Int32)
                                                · have hF := (if_pos sc39_21).symm.trans hF
                                                  refine g_tableIn X 1511 dL_law_39 (by rw [sc39_21]; decide) (by rw [sc39_21]; decide) (off := 1472) (by rw [sc39_21]; rfl) (by decide) ?_
                                                  exact w_L_law_A1511 hl X hRf hRl a1 k1_8 k2_8 k3_8 x4_8 h_8 o hF hgo hr
                                                · have hF := (if_neg sc39_21).symm.trans hF
                                                  by_cases sc39_22 : (v11 &&& (63 : Int32)) = (22 : Int32)
                                                  · have hF := (if_pos sc39_22).symm.trans hF
                                                    refine g_tableIn X 1524 dL_law_39 (by rw [sc39_22]; decide) (by rw [sc39_22]; decide) (off := 1485) (by rw [sc39_22]; rfl) (by decide) ?_
                                                    exact w_L_law_A1524 hl X hRf hRl a1 k1_8 k2_8 k3_8 x4_8 h_8 o hF hgo hr
                                                  · have hF := (if_neg sc39_22).symm.trans hF
                                                    by_cases sc39_23 : (v11 &&& (63 : Int32)) = (23 : Int32)
                                                    · have hF := (if_pos sc39_23).symm.trans hF
                                                      refine g_tableIn X 1611 dL_law_39 (by rw [sc39_23]; decide) (by rw [sc39_23]; decide) (off := 1572) (by rw [sc39_23]; rfl) (by decide) ?_
                                                      exact w_L_law_A1611 hl X hRf hRl a1 k1_8 k2_8 k3_8 x4_8 h_8 o hF hgo hr
                                                    · have hF := (if_neg sc39_23).symm.trans hF
                                                      by_cases sc39_24 : (v11 &&& (63 : Int32)) = (24 : Int32)
                                                      · have hF := (if_pos sc39_24).symm.trans hF
                                                        refine g_tableIn X 1624 dL_law_39 (by rw [sc39_24]; decide) (by rw [sc39_24]; decide) (off := 1585) (by rw [sc39_24]; rfl) (by decide) ?_
                                                        exact w_L_law_A1624 hl X hRf hRl a1 k1_8 k2_8 k3_8 x4_8 h_8 o hF hgo hr
                                                      · have hF := (if_neg sc39_24).symm.trans hF
                                                        by_cases sc39_25 : (v11 &&& (63 : Int32)) = (25 : Int32)
                                                        · have hF := (if_pos sc39_25).symm.trans hF
                                                          refine g_tableIn X 1637 dL_law_39 (by rw [sc39_25]; decide) (by rw [sc39_25]; decide) (off := 1598) (by rw [sc39_25]; rfl) (by decide) ?_
                                                          exact w_L_law_A1637 hl X hRf hRl a1 k1_8 k2_8 k3_8 x4_8 h_8 o hF hgo hr
                                                        · have hF := (if_neg sc39_25).symm.trans hF
                                                          by_cases sc39_26 : (v11 &&& (63 : Int32)) = (26 : Int32)
                                                          · have hF := (if_pos sc39_26).symm.trans hF
                                                            refine g_tableIn X 1693 dL_law_39 (by rw [sc39_26]; decide) (by rw [sc39_26]; decide) (off := 1654) (by rw [sc39_26]; rfl) (by decide) ?_
                                                            exact w_L_law_A1693 hl X hRf hRl a1 k1_8 k2_8 k3_8 x4_8 h_8 o hF hgo hr
                                                          · have hF := (if_neg sc39_26).symm.trans hF
                                                            by_cases sc39_27 : (v11 &&& (63 : Int32)) = (27 : Int32)
                                                            · have hF := (if_pos sc39_27).symm.trans hF
                                                              refine g_tableIn X 1749 dL_law_39 (by rw [sc39_27]; decide) (by rw [sc39_27]; decide) (off := 1710) (by rw [sc39_27]; rfl) (by decide) ?_
                                                              exact w_L_law_A1749 hl X hRf hRl a1 k1_8 k2_8 k3_8 x4_8 h_8 o hF hgo hr
                                                            · have hF := (if_neg sc39_27).symm.trans hF
                                                              by_cases sc39_28 : (v11 &&& (63 : Int32)) = (28 : Int32)
                                                              · have hF := (if_pos sc39_28).symm.trans hF
                                                                refine g_tableIn X 1829 dL_law_39 (by rw [sc39_28]; decide) (by rw [sc39_28]; decide) (off := 1790) (by rw [sc39_28]; rfl) (by decide) ?_
                                                                exact w_L_law_A1829 hl X hRf hRl a1 k1_8 k2_8 k3_8 x4_8 h_8 o hF hgo hr
                                                              · have hF := (if_neg sc39_28).symm.trans hF
                                                                by_cases sc39_29 : (v11 &&& (63 : Int32)) = (29 : Int32)
                                                                · have hF := (if_pos sc39_29).symm.trans hF
                                                                  refine g_tableIn X 1873 dL_law_39 (by rw [sc39_29]; decide) (by rw [sc39_29]; decide) (off := 1834) (by rw [sc39_29]; rfl) (by decide) ?_
                                                                  exact w_L_law_A1873 hl X hRf hRl a1 k1_8 k2_8 k3_8 x4_8 h_8 o hF hgo hr
                                                                · have hF := (if_neg sc39_29).symm.trans hF
                                                                  by_cases sc39_30 : (v11 &&& (63 : Int32)) = (30 : Int32)
                                                                  · have hF := (if_pos sc39_30).symm.trans hF
                                                                    refine g_tableIn X 1936 dL_law_39 (by rw [sc39_30]; decide) (by rw [sc39_30]; decide) (off := 1897) (by rw [sc39_30]; rfl) (by decide) ?_
                                                                    exact w_L_law_A1936 hl X hRf hRl a1 k1_8 k2_8 k3_8 x4_8 h_8 o hF hgo hr
                                                                  · have hF := (if_neg sc39_30).symm.trans hF
                                                                    by_cases sc39_31 : (v11 &&& (63 : Int32)) = (31 : Int32)
                                                                    · have hF := (if_pos sc39_31).symm.trans hF
                                                                      refine g_tableIn X 1999 dL_law_39 (by rw [sc39_31]; decide) (by rw [sc39_31]; decide) (off := 1960) (by rw [sc39_31]; rfl) (by decide) ?_
                                                                      exact w_L_law_A1999 hl X hRf hRl a1 k1_8 k2_8 k3_8 x4_8 h_8 o hF hgo hr
                                                                    · have hF := (if_neg sc39_31).symm.trans hF
                                                                      by_cases sc39_32 : (v11 &&& (63 : Int32)) = (32 : Int32)
                                                                      · have hF := (if_pos sc39_32).symm.trans hF
                                                                        refine g_tableIn X 2055 dL_law_39 (by rw [sc39_32]; decide) (by rw [sc39_32]; decide) (off := 2016) (by rw [sc39_32]; rfl) (by decide) ?_
                                                                        exact w_L_law_A2055 hl X hRf hRl a1 k1_8 k2_8 k3_8 x4_8 h_8 o hF hgo hr
                                                                      · have hF := (if_neg sc39_32).symm.trans hF
                                                                        by_cases sc39_33 : (v11 &&& (63 : Int32)) = (33 : Int32)
                                                                        · have hF := (if_pos sc39_33).symm.trans hF
                                                                          refine g_tableIn X 2118 dL_law_39 (by rw [sc39_33]; decide) (by rw [sc39_33]; decide) (off := 2079) (by rw [sc39_33]; rfl) (by decide) ?_
                                                                          exact w_L_law_A2118 hl X hRf hRl a1 k1_8 k2_8 k3_8 x4_8 h_8 o hF hgo hr
                                                                        · have hF := (if_neg sc39_33).symm.trans hF
                                                                          by_cases sc39_34 : (v11 &&& (63 : Int32)) = (34 : Int32)
                                                                          · have hF := (if_pos sc39_34).symm.trans hF
                                                                            refine g_tableIn X 2186 dL_law_39 (by rw [sc39_34]; decide) (by rw [sc39_34]; decide) (off := 2147) (by rw [sc39_34]; rfl) (by decide) ?_
                                                                            exact w_L_law_A2186 hl X hRf hRl a1 k1_8 k2_8 k3_8 x4_8 h_8 o hF hgo hr
                                                                          · have hF := (if_neg sc39_34).symm.trans hF
                                                                            by_cases sc39_35 : (v11 &&& (63 : Int32)) = (35 : Int32)
                                                                            · have hF := (if_pos sc39_35).symm.trans hF
                                                                              refine g_tableIn X 2199 dL_law_39 (by rw [sc39_35]; decide) (by rw [sc39_35]; decide) (off := 2160) (by rw [sc39_35]; rfl) (by decide) ?_
                                                                              exact w_L_law_A2199 hl X hRf hRl a1 k1_8 k2_8 k3_8 x4_8 h_8 o hF hgo hr
                                                                            · have hF := (if_neg sc39_35).symm.trans hF
                                                                              by_cases sc39_36 : (v11 &&& (63 : Int32)) = (36 : Int32)
                                                                              · have hF := (if_pos sc39_36).symm.trans hF
                                                                                refine g_tableIn X 2255 dL_law_39 (by rw [sc39_36]; decide) (by rw [sc39_36]; decide) (off := 2216) (by rw [sc39_36]; rfl) (by decide) ?_
                                                                                exact w_L_law_A2255 hl X hRf hRl a1 k1_8 k2_8 k3_8 x4_8 h_8 o hF hgo hr
                                                                              · have hF := (if_neg sc39_36).symm.trans hF
                                                                                by_cases sc39_37 : (v11 &&& (63 : Int32)) = (37 : Int32)
                                                                                · have hF := (if_pos sc39_37).symm.trans hF
                                                                                  refine g_tableIn X 2311 dL_law_39 (by rw [sc39_37]; decide) (by rw [sc39_37]; decide) (off := 2272) (by rw [sc39_37]; rfl) (by decide) ?_
                                                                                  exact w_L_law_A2311 hl X hRf hRl a1 k1_8 k2_8 k3_8 x4_8 h_8 o hF hgo hr
                                                                                · have hF := (if_neg sc39_37).symm.trans hF
                                                                                  by_cases sc39_38 : (v11 &&& (63 : Int32)) = (38 : Int32)
                                                                                  · have hF := (if_pos sc39_38).symm.trans hF
                                                                                    refine g_tableIn X 2386 dL_law_39 (by rw [sc39_38]; decide) (by rw [sc39_38]; decide) (off := 2347) (by rw [sc39_38]; rfl) (by decide) ?_
                                                                                    exact w_L_law_A2386 hl X hRf hRl a1 k1_8 k2_8 k3_8 x4_8 h_8 o hF hgo hr
                                                                                  · have hF := (if_neg sc39_38).symm.trans hF
                                                                                    by_cases sc39_39 : (v11 &&& (63 : Int32)) = (39 : Int32)
                                                                                    · have hF := (if_pos sc39_39).symm.trans hF
                                                                                      refine g_tableIn X 2430 dL_law_39 (by rw [sc39_39]; decide) (by rw [sc39_39]; decide) (off := 2391) (by rw [sc39_39]; rfl) (by decide) ?_
                                                                                      exact w_L_law_A2430 hl X hRf hRl a1 k1_8 k2_8 k3_8 x4_8 h_8 o hF hgo hr
                                                                                    · have hF := (if_neg sc39_39).symm.trans hF
                                                                                      by_cases sc39_40 : (v11 &&& (63 : Int32)) = (40 : Int32)
                                                                                      · have hF := (if_pos sc39_40).symm.trans hF
                                                                                        refine g_tableIn X 2443 dL_law_39 (by rw [sc39_40]; decide) (by rw [sc39_40]; decide) (off := 2404) (by rw [sc39_40]; rfl) (by decide) ?_
                                                                                        exact w_L_law_A2443 hl X hRf hRl a1 k1_8 k2_8 k3_8 x4_8 h_8 o hF hgo hr
                                                                                      · have hF := (if_neg sc39_40).symm.trans hF
                                                                                        by_cases sc39_41 : (v11 &&& (63 : Int32)) = (41 : Int32)
                                                                                        · have hF := (if_pos sc39_41).symm.trans hF
                                                                                          refine g_tableIn X 2487 dL_law_39 (by rw [sc39_41]; decide) (by rw [sc39_41]; decide) (off := 2448) (by rw [sc39_41]; rfl) (by decide) ?_
                                                                                          exact w_L_law_A2487 hl X hRf hRl a1 k1_8 k2_8 k3_8 x4_8 h_8 o hF hgo hr
                                                                                        · have hF := (if_neg sc39_41).symm.trans hF
                                                                                          by_cases sc39_42 : (v11 &&& (63 : Int32)) = (42 : Int32)
                                                                                          · have hF := (if_pos sc39_42).symm.trans hF
                                                                                            refine g_tableIn X 2543 dL_law_39 (by rw [sc39_42]; decide) (by rw [sc39_42]; decide) (off := 2504) (by rw [sc39_42]; rfl) (by decide) ?_
                                                                                            exact w_L_law_A2543 hl X hRf hRl a1 k1_8 k2_8 k3_8 x4_8 h_8 o hF hgo hr
                                                                                          · have hF := (if_neg sc39_42).symm.trans hF
                                                                                            by_cases sc39_43 : (v11 &&& (63 : Int32)) = (43 : Int32)
                                                                                            · have hF := (if_pos sc39_43).symm.trans hF
                                                                                              refine g_tableIn X 2599 dL_law_39 (by rw [sc39_43]; decide) (by rw [sc39_43]; decide) (off := 2560) (by rw [sc39_43]; rfl) (by decide) ?_
                                                                                              exact w_L_law_A2599 hl X hRf hRl a1 k1_8 k2_8 k3_8 x4_8 h_8 o hF hgo hr
                                                                                            · have hF := (if_neg sc39_43).symm.trans hF
                                                                                              by_cases sc39_44 : (v11 &&& (63 : Int32)) = (44 : Int32)
                                                                                              · have hF := (if_pos sc39_44).symm.trans hF
                                                                                                refine g_tableIn X 2655 dL_law_39 (by rw [sc39_44]; decide) (by rw [sc39_44]; decide) (off := 2616) (by rw [sc39_44]; rfl) (by decide) ?_
                                                                                                exact w_L_law_A2655 hl X hRf hRl a1 k1_8 k2_8 k3_8 x4_8 h_8 o hF hgo hr
                                                                                              · have hF := (if_neg sc39_44).symm.trans hF
                                                                                                by_cases sc39_45 : (v11 &&& (63 : Int32)) = (45 : Int32)
                                                                                                · have hF := (if_pos sc39_45).symm.trans hF
                                                                                                  refine g_tableIn X 2668 dL_law_39 (by rw [sc39_45]; decide) (by rw [sc39_45]; decide) (off := 2629) (by rw [sc39_45]; rfl) (by decide) ?_
                                                                                                  exact w_L_law_A2668 hl X hRf hRl a1 k1_8 k2_8 k3_8 x4_8 h_8 o hF hgo hr
                                                                                                · have hF := (if_neg sc39_45).symm.trans hF
                                                                                                  by_cases sc39_46 : (v11 &&& (63 : Int32)) = (46 : Int32)
                                                                                                  · have hF := (if_pos sc39_46).symm.trans hF
                                                                                                    refine g_tableIn X 2681 dL_law_39 (by rw [sc39_46]; decide) (by rw [sc39_46]; decide) (off := 2642) (by rw [sc39_46]; rfl) (by decide) ?_
                                                                                                    exact w_L_law_A2681 hl X hRf hRl a1 k1_8 k2_8 k3_8 x4_8 h_8 o hF hgo hr
                                                                                                  · have hF := (if_neg sc39_46).symm.trans hF
                                                                                                    by_cases sc39_47 : (v11 &&& (63 : Int32)) = (47 : Int32)
                                                                                                    · have hF := (if_pos sc39_47).symm.trans hF
                                                                                                      refine g_tableIn X 2722 dL_law_39 (by rw [sc39_47]; decide) (by rw [sc39_47]; decide) (off := 2683) (by rw [sc39_47]; rfl) (by decide) ?_
                                                                                                      exact w_L_law_A2722 hl X hRf hRl a1 k1_8 k2_8 k3_8 x4_8 h_8 o hF hgo hr
                                                                                                    · have hF := (if_neg sc39_47).symm.trans hF
                                                                                                      by_cases sc39_48 : (v11 &&& (63 : Int32)) = (48 : Int32)
                                                                                                      · have hF := (if_pos sc39_48).symm.trans hF
                                                                                                        refine g_tableIn X 2735 dL_law_39 (by rw [sc39_48]; decide) (by rw [sc39_48]; decide) (off := 2696) (by rw [sc39_48]; rfl) (by decide) ?_
                                                                                                        exact w_L_law_A2735 hl X hRf hRl a1 k1_8 k2_8 k3_8 x4_8 h_8 o hF hgo hr
                                                                                                      · have hF := (if_neg sc39_48).symm.trans hF
                                                                                                        by_cases sc39_49 : (v11 &&& (63 : Int32)) = (49 : Int32)
                                                                                                        · have hF := (if_pos sc39_49).symm.trans hF
                                                                                                          refine g_tableIn X 2790 dL_law_39 (by rw [sc39_49]; decide) (by rw [sc39_49]; decide) (off := 2751) (by rw [sc39_49]; rfl) (by decide) ?_
                                                                                                          exact w_L_law_A2790 hl X hRf hRl a1 k1_8 k2_8 k3_8 x4_8 h_8 o hF hgo hr
                                                                                                        · have hF := (if_neg sc39_49).symm.trans hF
                                                                                                          by_cases sc39_50 : (v11 &&& (63 : Int32)) = (50 : Int32)
                                                                                                          · have hF := (if_pos sc39_50).symm.trans hF
                                                                                                            refine g_tableIn X 2803 dL_law_39 (by rw [sc39_50]; decide) (by rw [sc39_50]; decide) (off := 2764) (by rw [sc39_50]; rfl) (by decide) ?_
                                                                                                            exact w_L_law_A2803 hl X hRf hRl a1 k1_8 k2_8 k3_8 x4_8 h_8 o hF hgo hr
                                                                                                          · have hF := (if_neg sc39_50).symm.trans hF
                                                                                                            by_cases sc39_51 : (v11 &&& (63 : Int32)) = (51 : Int32)
                                                                                                            · have hF := (if_pos sc39_51).symm.trans hF
                                                                                                              refine g_tableIn X 2816 dL_law_39 (by rw [sc39_51]; decide) (by rw [sc39_51]; decide) (off := 2777) (by rw [sc39_51]; rfl) (by decide) ?_
                                                                                                              exact w_L_law_A2816 hl X hRf hRl a1 k1_8 k2_8 k3_8 x4_8 h_8 o hF hgo hr
                                                                                                            · have hF := (if_neg sc39_51).symm.trans hF
                                                                                                              by_cases sc39_52 : (v11 &&& (63 : Int32)) = (52 : Int32)
                                                                                                              · have hF := (if_pos sc39_52).symm.trans hF
                                                                                                                refine g_tableIn X 2860 dL_law_39 (by rw [sc39_52]; decide) (by rw [sc39_52]; decide) (off := 2821) (by rw [sc39_52]; rfl) (by decide) ?_
                                                                                                                exact w_L_law_A2860 hl X hRf hRl a1 k1_8 k2_8 k3_8 x4_8 h_8 o hF hgo hr
                                                                                                              · have hF := (if_neg sc39_52).symm.trans hF
                                                                                                                by_cases sc39_53 : (v11 &&& (63 : Int32)) = (53 : Int32)
                                                                                                                · have hF := (if_pos sc39_53).symm.trans hF
                                                                                                                  refine g_tableIn X 2873 dL_law_39 (by rw [sc39_53]; decide) (by rw [sc39_53]; decide) (off := 2834) (by rw [sc39_53]; rfl) (by decide) ?_
                                                                                                                  exact w_L_law_A2873 hl X hRf hRl a1 k1_8 k2_8 k3_8 x4_8 h_8 o hF hgo hr
                                                                                                                · have hF := (if_neg sc39_53).symm.trans hF
                                                                                                                  by_cases sc39_54 : (v11 &&& (63 : Int32)) = (54 : Int32)
                                                                                                                  · have hF := (if_pos sc39_54).symm.trans hF
                                                                                                                    refine g_tableIn X 2917 dL_law_39 (by rw [sc39_54]; decide) (by rw [sc39_54]; decide) (off := 2878) (by rw [sc39_54]; rfl) (by decide) ?_
                                                                                                                    exact w_L_law_A2917 hl X hRf hRl a1 k1_8 k2_8 k3_8 x4_8 h_8 o hF hgo hr
                                                                                                                  · have hF := (if_neg sc39_54).symm.trans hF
                                                                                                                    by_cases sc39_55 : (v11 &&& (63 : Int32)) = (55 : Int32)
                                                                                                                    · have hF := (if_pos sc39_55).symm.trans hF
                                                                                                                      refine g_tableIn X 2973 dL_law_39 (by rw [sc39_55]; decide) (by rw [sc39_55]; decide) (off := 2934) (by rw [sc39_55]; rfl) (by decide) ?_
                                                                                                                      exact w_L_law_A2973 hl X hRf hRl a1 k1_8 k2_8 k3_8 x4_8 h_8 o hF hgo hr
                                                                                                                    · have hF := (if_neg sc39_55).symm.trans hF
                                                                                                                      by_cases sc39_56 : (v11 &&& (63 : Int32)) = (56 : Int32)
                                                                                                                      · have hF := (if_pos sc39_56).symm.trans hF
                                                                                                                        refine g_tableIn X 2986 dL_law_39 (by rw [sc39_56]; decide) (by rw [sc39_56]; decide) (off := 2947) (by rw [sc39_56]; rfl) (by decide) ?_
                                                                                                                        exact w_L_law_A2986 hl X hRf hRl a1 k1_8 k2_8 k3_8 x4_8 h_8 o hF hgo hr
                                                                                                                      · have hF := (if_neg sc39_56).symm.trans hF
                                                                                                                        by_cases sc39_57 : (v11 &&& (63 : Int32)) = (57 : Int32)
                                                                                                                        · have hF := (if_pos sc39_57).symm.trans hF
                                                                                                                          refine g_tableIn X 3030 dL_law_39 (by rw [sc39_57]; decide) (by rw [sc39_57]; decide) (off := 2991) (by rw [sc39_57]; rfl) (by decide) ?_
                                                                                                                          exact w_L_law_A3030 hl X hRf hRl a1 k1_8 k2_8 k3_8 x4_8 h_8 o hF hgo hr
                                                                                                                        · have hF := (if_neg sc39_57).symm.trans hF
                                                                                                                          by_cases sc39_58 : (v11 &&& (63 : Int32)) = (58 : Int32)
                                                                                                                          · have hF := (if_pos sc39_58).symm.trans hF
                                                                                                                            refine g_tableIn X 3074 dL_law_39 (by rw [sc39_58]; decide) (by rw [sc39_58]; decide) (off := 3035) (by rw [sc39_58]; rfl) (by decide) ?_
                                                                                                                            exact w_L_law_A3074 hl X hRf hRl a1 k1_8 k2_8 k3_8 x4_8 h_8 o hF hgo hr
                                                                                                                          · have hF := (if_neg sc39_58).symm.trans hF
                                                                                                                            by_cases sc39_59 : (v11 &&& (63 : Int32)) = (59 : Int32)
                                                                                                                            · have hF := (if_pos sc39_59).symm.trans hF
                                                                                                                              refine g_tableIn X 3118 dL_law_39 (by rw [sc39_59]; decide) (by rw [sc39_59]; decide) (off := 3079) (by rw [sc39_59]; rfl) (by decide) ?_
                                                                                                                              exact w_L_law_A3118 hl X hRf hRl a1 k1_8 k2_8 k3_8 x4_8 h_8 o hF hgo hr
                                                                                                                            · have hF := (if_neg sc39_59).symm.trans hF
                                                                                                                              have t_sc39_0 := sw_ne (k := 0) sc39_0 (by decide)
                                                                                                                              have t_sc39_1 := sw_ne (k := 1) sc39_1 (by decide)
                                                                                                                              have t_sc39_2 := sw_ne (k := 2) sc39_2 (by decide)
                                                                                                                              have t_sc39_3 := sw_ne (k := 3) sc39_3 (by decide)
                                                                                                                              have t_sc39_4 := sw_ne (k := 4) sc39_4 (by decide)
                                                                                                                              have t_sc39_5 := sw_ne (k := 5) sc39_5 (by decide)
                                                                                                                              have t_sc39_6 := sw_ne (k := 6) sc39_6 (by decide)
                                                                                                                              have t_sc39_7 := sw_ne (k := 7) sc39_7 (by decide)
                                                                                                                              have t_sc39_8 := sw_ne (k := 8) sc39_8 (by decide)
                                                                                                                              have t_sc39_9 := sw_ne (k := 9) sc39_9 (by decide)
                                                                                                                              have t_sc39_10 := sw_ne (k := 10) sc39_10 (by decide)
                                                                                                                              have t_sc39_11 := sw_ne (k := 11) sc39_11 (by decide)
                                                                                                                              have t_sc39_12 := sw_ne (k := 12) sc39_12 (by decide)
                                                                                                                              have t_sc39_13 := sw_ne (k := 13) sc39_13 (by decide)
                                                                                                                              have t_sc39_14 := sw_ne (k := 14) sc39_14 (by decide)
                                                                                                                              have t_sc39_15 := sw_ne (k := 15) sc39_15 (by decide)
                                                                                                                              have t_sc39_16 := sw_ne (k := 16) sc39_16 (by decide)
                                                                                                                              have t_sc39_17 := sw_ne (k := 17) sc39_17 (by decide)
                                                                                                                              have t_sc39_18 := sw_ne (k := 18) sc39_18 (by decide)
                                                                                                                              have t_sc39_19 := sw_ne (k := 19) sc39_19 (by decide)
                                                                                                                              have t_sc39_20 := sw_ne (k := 20) sc39_20 (by decide)
                                                                                                                              have t_sc39_21 := sw_ne (k := 21) sc39_21 (by decide)
                                                                                                                              have t_sc39_22 := sw_ne (k := 22) sc39_22 (by decide)
                                                                                                                              have t_sc39_23 := sw_ne (k := 23) sc39_23 (by decide)
                                                                                                                              have t_sc39_24 := sw_ne (k := 24) sc39_24 (by decide)
                                                                                                                              have t_sc39_25 := sw_ne (k := 25) sc39_25 (by decide)
                                                                                                                              have t_sc39_26 := sw_ne (k := 26) sc39_26 (by decide)
                                                                                                                              have t_sc39_27 := sw_ne (k := 27) sc39_27 (by decide)
                                                                                                                              have t_sc39_28 := sw_ne (k := 28) sc39_28 (by decide)
                                                                                                                              have t_sc39_29 := sw_ne (k := 29) sc39_29 (by decide)
                                                                                                                              have t_sc39_30 := sw_ne (k := 30) sc39_30 (by decide)
                                                                                                                              have t_sc39_31 := sw_ne (k := 31) sc39_31 (by decide)
                                                                                                                              have t_sc39_32 := sw_ne (k := 32) sc39_32 (by decide)
                                                                                                                              have t_sc39_33 := sw_ne (k := 33) sc39_33 (by decide)
                                                                                                                              have t_sc39_34 := sw_ne (k := 34) sc39_34 (by decide)
                                                                                                                              have t_sc39_35 := sw_ne (k := 35) sc39_35 (by decide)
                                                                                                                              have t_sc39_36 := sw_ne (k := 36) sc39_36 (by decide)
                                                                                                                              have t_sc39_37 := sw_ne (k := 37) sc39_37 (by decide)
                                                                                                                              have t_sc39_38 := sw_ne (k := 38) sc39_38 (by decide)
                                                                                                                              have t_sc39_39 := sw_ne (k := 39) sc39_39 (by decide)
                                                                                                                              have t_sc39_40 := sw_ne (k := 40) sc39_40 (by decide)
                                                                                                                              have t_sc39_41 := sw_ne (k := 41) sc39_41 (by decide)
                                                                                                                              have t_sc39_42 := sw_ne (k := 42) sc39_42 (by decide)
                                                                                                                              have t_sc39_43 := sw_ne (k := 43) sc39_43 (by decide)
                                                                                                                              have t_sc39_44 := sw_ne (k := 44) sc39_44 (by decide)
                                                                                                                              have t_sc39_45 := sw_ne (k := 45) sc39_45 (by decide)
                                                                                                                              have t_sc39_46 := sw_ne (k := 46) sc39_46 (by decide)
                                                                                                                              have t_sc39_47 := sw_ne (k := 47) sc39_47 (by decide)
                                                                                                                              have t_sc39_48 := sw_ne (k := 48) sc39_48 (by decide)
                                                                                                                              have t_sc39_49 := sw_ne (k := 49) sc39_49 (by decide)
                                                                                                                              have t_sc39_50 := sw_ne (k := 50) sc39_50 (by decide)
                                                                                                                              have t_sc39_51 := sw_ne (k := 51) sc39_51 (by decide)
                                                                                                                              have t_sc39_52 := sw_ne (k := 52) sc39_52 (by decide)
                                                                                                                              have t_sc39_53 := sw_ne (k := 53) sc39_53 (by decide)
                                                                                                                              have t_sc39_54 := sw_ne (k := 54) sc39_54 (by decide)
                                                                                                                              have t_sc39_55 := sw_ne (k := 55) sc39_55 (by decide)
                                                                                                                              have t_sc39_56 := sw_ne (k := 56) sc39_56 (by decide)
                                                                                                                              have t_sc39_57 := sw_ne (k := 57) sc39_57 (by decide)
                                                                                                                              have t_sc39_58 := sw_ne (k := 58) sc39_58 (by decide)
                                                                                                                              have t_sc39_59 := sw_ne (k := 59) sc39_59 (by decide)
                                                                                                                              rcases sw_range (v11 &&& (63 : Int32)) 0 59 with hx | hx
                                                                                                                              · refine g_tableOut X 3162 dL_law_39 hx (by decide) ?_
                                                                                                                                refine g_iinc (v := (x4_8 + (5 : Int32))) (L' := [some (va_rf a1), some (va_rf k1_8), some (va_rf k2_8), some (va_rf k3_8), some (.int (x4_8 + (5 : Int32))), none, none, none]) X dL_law_3162 (Nat.le_of_ble_eq_true rfl) rfl rfl (by first | rfl | simp [stL, rm1, clr2, cat_rf, cat_i, cat_j, cat_f, cat_d]) ?_
                                                                                                                                refine g_goto X 23 dL_law_3165 (by decide) ?_
                                                                                                                                cases hF
                                                                                                                                exact hgo _ rfl
                                                                                                                              · exfalso; omega
  show G p l e R s m args below meth c Q D dA h0 8 h724 3168 [none, none, none, none, none, none, none, none] []
  refine g_iconst (v := (1 : Int32)) X dL_law_3168 (by decide) ?_
  cases hF
  exact hQ 3169 _ dL_law_3169
